/-! Splitpointer -/
set_option maxRecDepth 100000
def RX1 : String := "Splitpointer"
def TX1 : u_T := fun k => match k with
  | 0 => ("Splitpointer", "group", "I", false)
  | 1 => ("Splitpointer", "reads", "I", false)
  | 2 => ("Splitpointer", "falses", "I", false)
  | 3 => ("Splitpointer", "forwards", "I", false)
  | 4 => ("Splitpointer", "crashes", "I", false)
  | 5 => ("Splitpointer", "refused", "I", false)
  | 6 => ("Splitpointer", "flushed", "I", false)
  | 7 => ("Splitpointer", "file", "LSplitpointer$Store;", false)
  | 8 => ("Splitpointer", "kept", "LSplitpointer$Store;", false)
  | 9 => ("Splitpointer", "log", "Ljava/util/ArrayList;", true)
  | 10 => ("Splitpointer", "clients", "[LSplitpointer$Client;", true)
  | 11 => ("Splitpointer", "isOpen", "[Z", true)
  | _ => ("Splitpointer", "marks", "[I", true)
def tyX1 : Nat → FieldType := fun k => match k with
  | 0 => .int
  | 1 => .int
  | 2 => .int
  | 3 => .int
  | 4 => .int
  | 5 => .int
  | 6 => .int
  | 7 => .object "Splitpointer$Store"
  | 8 => .object "Splitpointer$Store"
  | 9 => .object "java/util/ArrayList"
  | 10 => .array (.object "Splitpointer$Client")
  | 11 => .array .boolean
  | _ => .array .int
abbrev wsX10 : List Cond := u_ws RX1 TX1 13
set_option maxRecDepth 100000 in
theorem nmX1 : ∀ a, a < 13 → ∀ b, b < 13 → a ≠ b → (TX1 a).2.1 ≠ (TX1 b).2.1 := by decide +kernel
set_option maxRecDepth 100000 in
theorem tyX1_ok : ∀ k, k < 13 → parseFieldDescriptor (TX1 k).2.2.1 = some (tyX1 k) := by decide +kernel
abbrev cX1_init : ByteArray := prog_1_method_6_code
def yX1_init : MethodName := ⟨RX1, "<init>", "()V"⟩
def dkwX1_init_4 : List UInt8 := [181, 0, 61, 177]
abbrev dktX1_init_4 : List UInt8 := dkwX1_init_4 ++ []
def dkwX1_init_3 : List UInt8 := [5, 187, 0, 50, 89, 183, 0, 52, 83, 181, 0, 53, 42, 6, 188, 4, 181, 0, 57, 42, 6, 188, 10]
abbrev dktX1_init_3 : List UInt8 := dkwX1_init_3 ++ dktX1_init_4
def dkwX1_init_2 : List UInt8 := [189, 0, 50, 89, 3, 187, 0, 50, 89, 183, 0, 52, 83, 89, 4, 187, 0, 50, 89, 183, 0, 52, 83, 89]
abbrev dktX1_init_2 : List UInt8 := dkwX1_init_2 ++ dktX1_init_3
def dkwX1_init_1 : List UInt8 := [187, 0, 34, 89, 5, 183, 0, 36, 181, 0, 43, 42, 187, 0, 8, 89, 183, 0, 46, 181, 0, 47, 42, 6]
abbrev dktX1_init_1 : List UInt8 := dkwX1_init_1 ++ dktX1_init_2
def dkwX1_init_0 : List UInt8 := [42, 183, 0, 25, 42, 4, 181, 0, 31, 42, 187, 0, 34, 89, 5, 183, 0, 36, 181, 0, 39, 42]
abbrev dktX1_init_0 : List UInt8 := dkwX1_init_0 ++ dktX1_init_1
theorem dksX1_init_0 : cX1_init.data.toList.drop 0 = dktX1_init_0 := by decide +kernel
theorem dksX1_init_1 : cX1_init.data.toList.drop 22 = dktX1_init_1 := dk_seg dksX1_init_0 22 rfl rfl
theorem dksX1_init_2 : cX1_init.data.toList.drop 46 = dktX1_init_2 := dk_seg dksX1_init_1 24 rfl rfl
theorem dksX1_init_3 : cX1_init.data.toList.drop 70 = dktX1_init_3 := dk_seg dksX1_init_2 24 rfl rfl
theorem dksX1_init_4 : cX1_init.data.toList.drop 93 = dktX1_init_4 := dk_seg dksX1_init_3 23 rfl rfl
theorem dX1_init_0 : decode cX1_init 0 = .ok (.aload_n 0, 1) := dk_42 (dk_at dksX1_init_0 0 rfl rfl)
theorem dX1_init_1 : decode cX1_init 1 = .ok (.invokespecial 25, 3) := dk_183 0 25 (dk_at dksX1_init_0 1 rfl rfl)
theorem dX1_init_4 : decode cX1_init 4 = .ok (.aload_n 0, 1) := dk_42 (dk_at dksX1_init_0 4 rfl rfl)
theorem dX1_init_5 : decode cX1_init 5 = .ok (.iconst 1, 1) := dk_4 (dk_at dksX1_init_0 5 rfl rfl)
theorem dX1_init_6 : decode cX1_init 6 = .ok (.putfield 31, 3) := dk_181 0 31 (dk_at dksX1_init_0 6 rfl rfl)
theorem dX1_init_9 : decode cX1_init 9 = .ok (.aload_n 0, 1) := dk_42 (dk_at dksX1_init_0 9 rfl rfl)
theorem dX1_init_10 : decode cX1_init 10 = .ok (.new 34, 3) := dk_187 0 34 (dk_at dksX1_init_0 10 rfl rfl)
theorem dX1_init_13 : decode cX1_init 13 = .ok (.dup, 1) := dk_89 (dk_at dksX1_init_0 13 rfl rfl)
theorem dX1_init_14 : decode cX1_init 14 = .ok (.iconst 2, 1) := dk_5 (dk_at dksX1_init_0 14 rfl rfl)
theorem dX1_init_15 : decode cX1_init 15 = .ok (.invokespecial 36, 3) := dk_183 0 36 (dk_at dksX1_init_0 15 rfl rfl)
theorem dX1_init_18 : decode cX1_init 18 = .ok (.putfield 39, 3) := dk_181 0 39 (dk_at dksX1_init_0 18 rfl rfl)
theorem dX1_init_21 : decode cX1_init 21 = .ok (.aload_n 0, 1) := dk_42 (dk_at dksX1_init_0 21 rfl rfl)
theorem dX1_init_22 : decode cX1_init 22 = .ok (.new 34, 3) := dk_187 0 34 (dk_at dksX1_init_1 0 rfl rfl)
theorem dX1_init_25 : decode cX1_init 25 = .ok (.dup, 1) := dk_89 (dk_at dksX1_init_1 3 rfl rfl)
theorem dX1_init_26 : decode cX1_init 26 = .ok (.iconst 2, 1) := dk_5 (dk_at dksX1_init_1 4 rfl rfl)
theorem dX1_init_27 : decode cX1_init 27 = .ok (.invokespecial 36, 3) := dk_183 0 36 (dk_at dksX1_init_1 5 rfl rfl)
theorem dX1_init_30 : decode cX1_init 30 = .ok (.putfield 43, 3) := dk_181 0 43 (dk_at dksX1_init_1 8 rfl rfl)
theorem dX1_init_33 : decode cX1_init 33 = .ok (.aload_n 0, 1) := dk_42 (dk_at dksX1_init_1 11 rfl rfl)
theorem dX1_init_34 : decode cX1_init 34 = .ok (.new 8, 3) := dk_187 0 8 (dk_at dksX1_init_1 12 rfl rfl)
theorem dX1_init_37 : decode cX1_init 37 = .ok (.dup, 1) := dk_89 (dk_at dksX1_init_1 15 rfl rfl)
theorem dX1_init_38 : decode cX1_init 38 = .ok (.invokespecial 46, 3) := dk_183 0 46 (dk_at dksX1_init_1 16 rfl rfl)
theorem dX1_init_41 : decode cX1_init 41 = .ok (.putfield 47, 3) := dk_181 0 47 (dk_at dksX1_init_1 19 rfl rfl)
theorem dX1_init_44 : decode cX1_init 44 = .ok (.aload_n 0, 1) := dk_42 (dk_at dksX1_init_1 22 rfl rfl)
theorem dX1_init_45 : decode cX1_init 45 = .ok (.iconst 3, 1) := dk_6 (dk_at dksX1_init_1 23 rfl rfl)
theorem dX1_init_46 : decode cX1_init 46 = .ok (.anewarray 50, 3) := dk_189 0 50 (dk_at dksX1_init_2 0 rfl rfl)
theorem dX1_init_49 : decode cX1_init 49 = .ok (.dup, 1) := dk_89 (dk_at dksX1_init_2 3 rfl rfl)
theorem dX1_init_50 : decode cX1_init 50 = .ok (.iconst 0, 1) := dk_3 (dk_at dksX1_init_2 4 rfl rfl)
theorem dX1_init_51 : decode cX1_init 51 = .ok (.new 50, 3) := dk_187 0 50 (dk_at dksX1_init_2 5 rfl rfl)
theorem dX1_init_54 : decode cX1_init 54 = .ok (.dup, 1) := dk_89 (dk_at dksX1_init_2 8 rfl rfl)
theorem dX1_init_55 : decode cX1_init 55 = .ok (.invokespecial 52, 3) := dk_183 0 52 (dk_at dksX1_init_2 9 rfl rfl)
theorem dX1_init_58 : decode cX1_init 58 = .ok (.aastore, 1) := dk_83 (dk_at dksX1_init_2 12 rfl rfl)
theorem dX1_init_59 : decode cX1_init 59 = .ok (.dup, 1) := dk_89 (dk_at dksX1_init_2 13 rfl rfl)
theorem dX1_init_60 : decode cX1_init 60 = .ok (.iconst 1, 1) := dk_4 (dk_at dksX1_init_2 14 rfl rfl)
theorem dX1_init_61 : decode cX1_init 61 = .ok (.new 50, 3) := dk_187 0 50 (dk_at dksX1_init_2 15 rfl rfl)
theorem dX1_init_64 : decode cX1_init 64 = .ok (.dup, 1) := dk_89 (dk_at dksX1_init_2 18 rfl rfl)
theorem dX1_init_65 : decode cX1_init 65 = .ok (.invokespecial 52, 3) := dk_183 0 52 (dk_at dksX1_init_2 19 rfl rfl)
theorem dX1_init_68 : decode cX1_init 68 = .ok (.aastore, 1) := dk_83 (dk_at dksX1_init_2 22 rfl rfl)
theorem dX1_init_69 : decode cX1_init 69 = .ok (.dup, 1) := dk_89 (dk_at dksX1_init_2 23 rfl rfl)
theorem dX1_init_70 : decode cX1_init 70 = .ok (.iconst 2, 1) := dk_5 (dk_at dksX1_init_3 0 rfl rfl)
theorem dX1_init_71 : decode cX1_init 71 = .ok (.new 50, 3) := dk_187 0 50 (dk_at dksX1_init_3 1 rfl rfl)
theorem dX1_init_74 : decode cX1_init 74 = .ok (.dup, 1) := dk_89 (dk_at dksX1_init_3 4 rfl rfl)
theorem dX1_init_75 : decode cX1_init 75 = .ok (.invokespecial 52, 3) := dk_183 0 52 (dk_at dksX1_init_3 5 rfl rfl)
theorem dX1_init_78 : decode cX1_init 78 = .ok (.aastore, 1) := dk_83 (dk_at dksX1_init_3 8 rfl rfl)
theorem dX1_init_79 : decode cX1_init 79 = .ok (.putfield 53, 3) := dk_181 0 53 (dk_at dksX1_init_3 9 rfl rfl)
theorem dX1_init_82 : decode cX1_init 82 = .ok (.aload_n 0, 1) := dk_42 (dk_at dksX1_init_3 12 rfl rfl)
theorem dX1_init_83 : decode cX1_init 83 = .ok (.iconst 3, 1) := dk_6 (dk_at dksX1_init_3 13 rfl rfl)
theorem dX1_init_84 : decode cX1_init 84 = .ok (.newarray .boolean, 2) := dk_188_4 (dk_at dksX1_init_3 14 rfl rfl)
theorem dX1_init_86 : decode cX1_init 86 = .ok (.putfield 57, 3) := dk_181 0 57 (dk_at dksX1_init_3 16 rfl rfl)
theorem dX1_init_89 : decode cX1_init 89 = .ok (.aload_n 0, 1) := dk_42 (dk_at dksX1_init_3 19 rfl rfl)
theorem dX1_init_90 : decode cX1_init 90 = .ok (.iconst 3, 1) := dk_6 (dk_at dksX1_init_3 20 rfl rfl)
theorem dX1_init_91 : decode cX1_init 91 = .ok (.newarray .int, 2) := dk_188_10 (dk_at dksX1_init_3 21 rfl rfl)
theorem dX1_init_93 : decode cX1_init 93 = .ok (.putfield 61, 3) := dk_181 0 61 (dk_at dksX1_init_4 0 rfl rfl)
theorem dX1_init_96 : decode cX1_init 96 = .ok (.return_, 1) := dk_177 (dk_at dksX1_init_4 3 rfl rfl)
abbrev cX1_flush : ByteArray := prog_1_method_32_code
def yX1_flush : MethodName := ⟨RX1, "flush", "()I"⟩
def dkwX1_flush_1 : List UInt8 := [27, 172]
abbrev dktX1_flush_1 : List UInt8 := dkwX1_flush_1 ++ []
def dkwX1_flush_0 : List UInt8 := [42, 180, 0, 47, 182, 0, 7, 42, 180, 0, 97, 100, 60, 42, 42, 180, 0, 47, 182, 0, 7, 181, 0, 97]
abbrev dktX1_flush_0 : List UInt8 := dkwX1_flush_0 ++ dktX1_flush_1
theorem dksX1_flush_0 : cX1_flush.data.toList.drop 0 = dktX1_flush_0 := by decide +kernel
theorem dksX1_flush_1 : cX1_flush.data.toList.drop 24 = dktX1_flush_1 := dk_seg dksX1_flush_0 24 rfl rfl
theorem dX1_flush_0 : decode cX1_flush 0 = .ok (.aload_n 0, 1) := dk_42 (dk_at dksX1_flush_0 0 rfl rfl)
theorem dX1_flush_1 : decode cX1_flush 1 = .ok (.getfield 47, 3) := dk_180 0 47 (dk_at dksX1_flush_0 1 rfl rfl)
theorem dX1_flush_4 : decode cX1_flush 4 = .ok (.invokevirtual 7, 3) := dk_182 0 7 (dk_at dksX1_flush_0 4 rfl rfl)
theorem dX1_flush_7 : decode cX1_flush 7 = .ok (.aload_n 0, 1) := dk_42 (dk_at dksX1_flush_0 7 rfl rfl)
theorem dX1_flush_8 : decode cX1_flush 8 = .ok (.getfield 97, 3) := dk_180 0 97 (dk_at dksX1_flush_0 8 rfl rfl)
theorem dX1_flush_11 : decode cX1_flush 11 = .ok (.isub, 1) := dk_100 (dk_at dksX1_flush_0 11 rfl rfl)
theorem dX1_flush_12 : decode cX1_flush 12 = .ok (.istore_n 1, 1) := dk_60 (dk_at dksX1_flush_0 12 rfl rfl)
theorem dX1_flush_13 : decode cX1_flush 13 = .ok (.aload_n 0, 1) := dk_42 (dk_at dksX1_flush_0 13 rfl rfl)
theorem dX1_flush_14 : decode cX1_flush 14 = .ok (.aload_n 0, 1) := dk_42 (dk_at dksX1_flush_0 14 rfl rfl)
theorem dX1_flush_15 : decode cX1_flush 15 = .ok (.getfield 47, 3) := dk_180 0 47 (dk_at dksX1_flush_0 15 rfl rfl)
theorem dX1_flush_18 : decode cX1_flush 18 = .ok (.invokevirtual 7, 3) := dk_182 0 7 (dk_at dksX1_flush_0 18 rfl rfl)
theorem dX1_flush_21 : decode cX1_flush 21 = .ok (.putfield 97, 3) := dk_181 0 97 (dk_at dksX1_flush_0 21 rfl rfl)
theorem dX1_flush_24 : decode cX1_flush 24 = .ok (.iload_n 1, 1) := dk_27 (dk_at dksX1_flush_1 0 rfl rfl)
theorem dX1_flush_25 : decode cX1_flush 25 = .ok (.ireturn, 1) := dk_172 (dk_at dksX1_flush_1 1 rfl rfl)
abbrev cX1_checkpoint : ByteArray := prog_1_method_33_code
def yX1_checkpoint : MethodName := ⟨RX1, "checkpoint", "()I"⟩
def dkwX1_checkpoint_0 : List UInt8 := [42, 180, 0, 47, 182, 0, 7, 60, 42, 182, 0, 100, 27, 172]
abbrev dktX1_checkpoint_0 : List UInt8 := dkwX1_checkpoint_0 ++ []
theorem dksX1_checkpoint_0 : cX1_checkpoint.data.toList.drop 0 = dktX1_checkpoint_0 := by decide +kernel
theorem dX1_checkpoint_0 : decode cX1_checkpoint 0 = .ok (.aload_n 0, 1) := dk_42 (dk_at dksX1_checkpoint_0 0 rfl rfl)
theorem dX1_checkpoint_1 : decode cX1_checkpoint 1 = .ok (.getfield 47, 3) := dk_180 0 47 (dk_at dksX1_checkpoint_0 1 rfl rfl)
theorem dX1_checkpoint_4 : decode cX1_checkpoint 4 = .ok (.invokevirtual 7, 3) := dk_182 0 7 (dk_at dksX1_checkpoint_0 4 rfl rfl)
theorem dX1_checkpoint_7 : decode cX1_checkpoint 7 = .ok (.istore_n 1, 1) := dk_60 (dk_at dksX1_checkpoint_0 7 rfl rfl)
theorem dX1_checkpoint_8 : decode cX1_checkpoint 8 = .ok (.aload_n 0, 1) := dk_42 (dk_at dksX1_checkpoint_0 8 rfl rfl)
theorem dX1_checkpoint_9 : decode cX1_checkpoint 9 = .ok (.invokevirtual 100, 3) := dk_182 0 100 (dk_at dksX1_checkpoint_0 9 rfl rfl)
theorem dX1_checkpoint_12 : decode cX1_checkpoint 12 = .ok (.iload_n 1, 1) := dk_27 (dk_at dksX1_checkpoint_0 12 rfl rfl)
theorem dX1_checkpoint_13 : decode cX1_checkpoint 13 = .ok (.ireturn, 1) := dk_172 (dk_at dksX1_checkpoint_0 13 rfl rfl)
abbrev cX1_keep : ByteArray := prog_1_method_15_code
def yX1_keep : MethodName := ⟨RX1, "keep", "()V"⟩
def dkwX1_keep_0 : List UInt8 := [42, 42, 180, 0, 39, 182, 0, 90, 181, 0, 43, 42, 180, 0, 47, 182, 0, 94, 42, 3, 181, 0, 97, 177]
abbrev dktX1_keep_0 : List UInt8 := dkwX1_keep_0 ++ []
theorem dksX1_keep_0 : cX1_keep.data.toList.drop 0 = dktX1_keep_0 := by decide +kernel
theorem dX1_keep_0 : decode cX1_keep 0 = .ok (.aload_n 0, 1) := dk_42 (dk_at dksX1_keep_0 0 rfl rfl)
theorem dX1_keep_1 : decode cX1_keep 1 = .ok (.aload_n 0, 1) := dk_42 (dk_at dksX1_keep_0 1 rfl rfl)
theorem dX1_keep_2 : decode cX1_keep 2 = .ok (.getfield 39, 3) := dk_180 0 39 (dk_at dksX1_keep_0 2 rfl rfl)
theorem dX1_keep_5 : decode cX1_keep 5 = .ok (.invokevirtual 90, 3) := dk_182 0 90 (dk_at dksX1_keep_0 5 rfl rfl)
theorem dX1_keep_8 : decode cX1_keep 8 = .ok (.putfield 43, 3) := dk_181 0 43 (dk_at dksX1_keep_0 8 rfl rfl)
theorem dX1_keep_11 : decode cX1_keep 11 = .ok (.aload_n 0, 1) := dk_42 (dk_at dksX1_keep_0 11 rfl rfl)
theorem dX1_keep_12 : decode cX1_keep 12 = .ok (.getfield 47, 3) := dk_180 0 47 (dk_at dksX1_keep_0 12 rfl rfl)
theorem dX1_keep_15 : decode cX1_keep 15 = .ok (.invokevirtual 94, 3) := dk_182 0 94 (dk_at dksX1_keep_0 15 rfl rfl)
theorem dX1_keep_18 : decode cX1_keep 18 = .ok (.aload_n 0, 1) := dk_42 (dk_at dksX1_keep_0 18 rfl rfl)
theorem dX1_keep_19 : decode cX1_keep 19 = .ok (.iconst 0, 1) := dk_3 (dk_at dksX1_keep_0 19 rfl rfl)
theorem dX1_keep_20 : decode cX1_keep 20 = .ok (.putfield 97, 3) := dk_181 0 97 (dk_at dksX1_keep_0 20 rfl rfl)
theorem dX1_keep_23 : decode cX1_keep 23 = .ok (.return_, 1) := dk_177 (dk_at dksX1_keep_0 23 rfl rfl)
abbrev cX1_crash : ByteArray := prog_1_method_34_code
def yX1_crash : MethodName := ⟨RX1, "crash", "()I"⟩
def dkwX1_crash_3 : List UInt8 := [172]
abbrev dktX1_crash_3 : List UInt8 := dkwX1_crash_3 ++ []
def dkwX1_crash_2 : List UInt8 := [4, 100, 182, 0, 240, 87, 167, 255, 225, 42, 182, 0, 137, 42, 89, 180, 0, 243, 4, 96, 181, 0, 243, 27]
abbrev dktX1_crash_2 : List UInt8 := dkwX1_crash_2 ++ dktX1_crash_3
def dkwX1_crash_1 : List UInt8 := [180, 0, 47, 182, 0, 7, 42, 180, 0, 97, 164, 0, 23, 42, 180, 0, 47, 42, 180, 0, 47, 182, 0, 7]
abbrev dktX1_crash_1 : List UInt8 := dkwX1_crash_1 ++ dktX1_crash_2
def dkwX1_crash_0 : List UInt8 := [42, 180, 0, 47, 182, 0, 7, 42, 180, 0, 97, 100, 60, 42, 42, 182, 0, 237, 181, 0, 39, 42]
abbrev dktX1_crash_0 : List UInt8 := dkwX1_crash_0 ++ dktX1_crash_1
theorem dksX1_crash_0 : cX1_crash.data.toList.drop 0 = dktX1_crash_0 := by decide +kernel
theorem dksX1_crash_1 : cX1_crash.data.toList.drop 22 = dktX1_crash_1 := dk_seg dksX1_crash_0 22 rfl rfl
theorem dksX1_crash_2 : cX1_crash.data.toList.drop 46 = dktX1_crash_2 := dk_seg dksX1_crash_1 24 rfl rfl
theorem dksX1_crash_3 : cX1_crash.data.toList.drop 70 = dktX1_crash_3 := dk_seg dksX1_crash_2 24 rfl rfl
theorem dX1_crash_0 : decode cX1_crash 0 = .ok (.aload_n 0, 1) := dk_42 (dk_at dksX1_crash_0 0 rfl rfl)
theorem dX1_crash_1 : decode cX1_crash 1 = .ok (.getfield 47, 3) := dk_180 0 47 (dk_at dksX1_crash_0 1 rfl rfl)
theorem dX1_crash_4 : decode cX1_crash 4 = .ok (.invokevirtual 7, 3) := dk_182 0 7 (dk_at dksX1_crash_0 4 rfl rfl)
theorem dX1_crash_7 : decode cX1_crash 7 = .ok (.aload_n 0, 1) := dk_42 (dk_at dksX1_crash_0 7 rfl rfl)
theorem dX1_crash_8 : decode cX1_crash 8 = .ok (.getfield 97, 3) := dk_180 0 97 (dk_at dksX1_crash_0 8 rfl rfl)
theorem dX1_crash_11 : decode cX1_crash 11 = .ok (.isub, 1) := dk_100 (dk_at dksX1_crash_0 11 rfl rfl)
theorem dX1_crash_12 : decode cX1_crash 12 = .ok (.istore_n 1, 1) := dk_60 (dk_at dksX1_crash_0 12 rfl rfl)
theorem dX1_crash_13 : decode cX1_crash 13 = .ok (.aload_n 0, 1) := dk_42 (dk_at dksX1_crash_0 13 rfl rfl)
theorem dX1_crash_14 : decode cX1_crash 14 = .ok (.aload_n 0, 1) := dk_42 (dk_at dksX1_crash_0 14 rfl rfl)
theorem dX1_crash_15 : decode cX1_crash 15 = .ok (.invokevirtual 237, 3) := dk_182 0 237 (dk_at dksX1_crash_0 15 rfl rfl)
theorem dX1_crash_18 : decode cX1_crash 18 = .ok (.putfield 39, 3) := dk_181 0 39 (dk_at dksX1_crash_0 18 rfl rfl)
theorem dX1_crash_21 : decode cX1_crash 21 = .ok (.aload_n 0, 1) := dk_42 (dk_at dksX1_crash_0 21 rfl rfl)
theorem dX1_crash_22 : decode cX1_crash 22 = .ok (.getfield 47, 3) := dk_180 0 47 (dk_at dksX1_crash_1 0 rfl rfl)
theorem dX1_crash_25 : decode cX1_crash 25 = .ok (.invokevirtual 7, 3) := dk_182 0 7 (dk_at dksX1_crash_1 3 rfl rfl)
theorem dX1_crash_28 : decode cX1_crash 28 = .ok (.aload_n 0, 1) := dk_42 (dk_at dksX1_crash_1 6 rfl rfl)
theorem dX1_crash_29 : decode cX1_crash 29 = .ok (.getfield 97, 3) := dk_180 0 97 (dk_at dksX1_crash_1 7 rfl rfl)
theorem dX1_crash_32 : decode cX1_crash 32 = .ok (.if_icmp .le 23, 3) := dk_164 0 23 (dk_at dksX1_crash_1 10 rfl rfl)
theorem dX1_crash_35 : decode cX1_crash 35 = .ok (.aload_n 0, 1) := dk_42 (dk_at dksX1_crash_1 13 rfl rfl)
theorem dX1_crash_36 : decode cX1_crash 36 = .ok (.getfield 47, 3) := dk_180 0 47 (dk_at dksX1_crash_1 14 rfl rfl)
theorem dX1_crash_39 : decode cX1_crash 39 = .ok (.aload_n 0, 1) := dk_42 (dk_at dksX1_crash_1 17 rfl rfl)
theorem dX1_crash_40 : decode cX1_crash 40 = .ok (.getfield 47, 3) := dk_180 0 47 (dk_at dksX1_crash_1 18 rfl rfl)
theorem dX1_crash_43 : decode cX1_crash 43 = .ok (.invokevirtual 7, 3) := dk_182 0 7 (dk_at dksX1_crash_1 21 rfl rfl)
theorem dX1_crash_46 : decode cX1_crash 46 = .ok (.iconst 1, 1) := dk_4 (dk_at dksX1_crash_2 0 rfl rfl)
theorem dX1_crash_47 : decode cX1_crash 47 = .ok (.isub, 1) := dk_100 (dk_at dksX1_crash_2 1 rfl rfl)
theorem dX1_crash_48 : decode cX1_crash 48 = .ok (.invokevirtual 240, 3) := dk_182 0 240 (dk_at dksX1_crash_2 2 rfl rfl)
theorem dX1_crash_51 : decode cX1_crash 51 = .ok (.pop, 1) := dk_87 (dk_at dksX1_crash_2 5 rfl rfl)
theorem dX1_crash_52 : decode cX1_crash 52 = .ok (.goto (-31), 3) := dk_167 255 225 (dk_at dksX1_crash_2 6 rfl rfl)
theorem dX1_crash_55 : decode cX1_crash 55 = .ok (.aload_n 0, 1) := dk_42 (dk_at dksX1_crash_2 9 rfl rfl)
theorem dX1_crash_56 : decode cX1_crash 56 = .ok (.invokevirtual 137, 3) := dk_182 0 137 (dk_at dksX1_crash_2 10 rfl rfl)
theorem dX1_crash_59 : decode cX1_crash 59 = .ok (.aload_n 0, 1) := dk_42 (dk_at dksX1_crash_2 13 rfl rfl)
theorem dX1_crash_60 : decode cX1_crash 60 = .ok (.dup, 1) := dk_89 (dk_at dksX1_crash_2 14 rfl rfl)
theorem dX1_crash_61 : decode cX1_crash 61 = .ok (.getfield 243, 3) := dk_180 0 243 (dk_at dksX1_crash_2 15 rfl rfl)
theorem dX1_crash_64 : decode cX1_crash 64 = .ok (.iconst 1, 1) := dk_4 (dk_at dksX1_crash_2 18 rfl rfl)
theorem dX1_crash_65 : decode cX1_crash 65 = .ok (.iadd, 1) := dk_96 (dk_at dksX1_crash_2 19 rfl rfl)
theorem dX1_crash_66 : decode cX1_crash 66 = .ok (.putfield 243, 3) := dk_181 0 243 (dk_at dksX1_crash_2 20 rfl rfl)
theorem dX1_crash_69 : decode cX1_crash 69 = .ok (.iload_n 1, 1) := dk_27 (dk_at dksX1_crash_2 23 rfl rfl)
theorem dX1_crash_70 : decode cX1_crash 70 = .ok (.ireturn, 1) := dk_172 (dk_at dksX1_crash_3 0 rfl rfl)
abbrev cX1_recovered : ByteArray := prog_1_method_18_code
def yX1_recovered : MethodName := ⟨RX1, "recovered", "()LSplitpointer$Store;"⟩
def dkwX1_recovered_1 : List UInt8 := [182, 0, 13, 192, 0, 107, 43, 185, 0, 109, 2, 0, 132, 2, 1, 167, 255, 228, 43, 176]
abbrev dktX1_recovered_1 : List UInt8 := dkwX1_recovered_1 ++ []
def dkwX1_recovered_0 : List UInt8 := [42, 180, 0, 43, 182, 0, 90, 76, 3, 61, 28, 42, 180, 0, 97, 162, 0, 26, 42, 180, 0, 47, 28]
abbrev dktX1_recovered_0 : List UInt8 := dkwX1_recovered_0 ++ dktX1_recovered_1
theorem dksX1_recovered_0 : cX1_recovered.data.toList.drop 0 = dktX1_recovered_0 := by decide +kernel
theorem dksX1_recovered_1 : cX1_recovered.data.toList.drop 23 = dktX1_recovered_1 := dk_seg dksX1_recovered_0 23 rfl rfl
theorem dX1_recovered_0 : decode cX1_recovered 0 = .ok (.aload_n 0, 1) := dk_42 (dk_at dksX1_recovered_0 0 rfl rfl)
theorem dX1_recovered_1 : decode cX1_recovered 1 = .ok (.getfield 43, 3) := dk_180 0 43 (dk_at dksX1_recovered_0 1 rfl rfl)
theorem dX1_recovered_4 : decode cX1_recovered 4 = .ok (.invokevirtual 90, 3) := dk_182 0 90 (dk_at dksX1_recovered_0 4 rfl rfl)
theorem dX1_recovered_7 : decode cX1_recovered 7 = .ok (.astore_n 1, 1) := dk_76 (dk_at dksX1_recovered_0 7 rfl rfl)
theorem dX1_recovered_8 : decode cX1_recovered 8 = .ok (.iconst 0, 1) := dk_3 (dk_at dksX1_recovered_0 8 rfl rfl)
theorem dX1_recovered_9 : decode cX1_recovered 9 = .ok (.istore_n 2, 1) := dk_61 (dk_at dksX1_recovered_0 9 rfl rfl)
theorem dX1_recovered_10 : decode cX1_recovered 10 = .ok (.iload_n 2, 1) := dk_28 (dk_at dksX1_recovered_0 10 rfl rfl)
theorem dX1_recovered_11 : decode cX1_recovered 11 = .ok (.aload_n 0, 1) := dk_42 (dk_at dksX1_recovered_0 11 rfl rfl)
theorem dX1_recovered_12 : decode cX1_recovered 12 = .ok (.getfield 97, 3) := dk_180 0 97 (dk_at dksX1_recovered_0 12 rfl rfl)
theorem dX1_recovered_15 : decode cX1_recovered 15 = .ok (.if_icmp .ge 26, 3) := dk_162 0 26 (dk_at dksX1_recovered_0 15 rfl rfl)
theorem dX1_recovered_18 : decode cX1_recovered 18 = .ok (.aload_n 0, 1) := dk_42 (dk_at dksX1_recovered_0 18 rfl rfl)
theorem dX1_recovered_19 : decode cX1_recovered 19 = .ok (.getfield 47, 3) := dk_180 0 47 (dk_at dksX1_recovered_0 19 rfl rfl)
theorem dX1_recovered_22 : decode cX1_recovered 22 = .ok (.iload_n 2, 1) := dk_28 (dk_at dksX1_recovered_0 22 rfl rfl)
theorem dX1_recovered_23 : decode cX1_recovered 23 = .ok (.invokevirtual 13, 3) := dk_182 0 13 (dk_at dksX1_recovered_1 0 rfl rfl)
theorem dX1_recovered_26 : decode cX1_recovered 26 = .ok (.checkcast 107, 3) := dk_192 0 107 (dk_at dksX1_recovered_1 3 rfl rfl)
theorem dX1_recovered_29 : decode cX1_recovered 29 = .ok (.aload_n 1, 1) := dk_43 (dk_at dksX1_recovered_1 6 rfl rfl)
theorem dX1_recovered_30 : decode cX1_recovered 30 = .ok (.invokeinterface 109 2, 5) := by decide +kernel
theorem dX1_recovered_35 : decode cX1_recovered 35 = .ok (.iinc 2 1, 3) := dk_132 2 1 (dk_at dksX1_recovered_1 12 rfl rfl)
theorem dX1_recovered_38 : decode cX1_recovered 38 = .ok (.goto (-28), 3) := dk_167 255 228 (dk_at dksX1_recovered_1 15 rfl rfl)
theorem dX1_recovered_41 : decode cX1_recovered 41 = .ok (.aload_n 1, 1) := dk_43 (dk_at dksX1_recovered_1 18 rfl rfl)
theorem dX1_recovered_42 : decode cX1_recovered 42 = .ok (.areturn, 1) := dk_176 (dk_at dksX1_recovered_1 19 rfl rfl)
abbrev cX1_has : ByteArray := prog_1_method_3_code
def yX1_has : MethodName := ⟨RX1, "has", "(II)Z"⟩
def dkwX1_has_0 : List UInt8 := [26, 27, 122, 4, 126, 4, 160, 0, 7, 4, 167, 0, 4, 3, 172]
abbrev dktX1_has_0 : List UInt8 := dkwX1_has_0 ++ []
theorem dksX1_has_0 : cX1_has.data.toList.drop 0 = dktX1_has_0 := by decide +kernel
theorem dX1_has_0 : decode cX1_has 0 = .ok (.iload_n 0, 1) := dk_26 (dk_at dksX1_has_0 0 rfl rfl)
theorem dX1_has_1 : decode cX1_has 1 = .ok (.iload_n 1, 1) := dk_27 (dk_at dksX1_has_0 1 rfl rfl)
theorem dX1_has_2 : decode cX1_has 2 = .ok (.ishr, 1) := dk_122 (dk_at dksX1_has_0 2 rfl rfl)
theorem dX1_has_3 : decode cX1_has 3 = .ok (.iconst 1, 1) := dk_4 (dk_at dksX1_has_0 3 rfl rfl)
theorem dX1_has_4 : decode cX1_has 4 = .ok (.iand, 1) := dk_126 (dk_at dksX1_has_0 4 rfl rfl)
theorem dX1_has_5 : decode cX1_has 5 = .ok (.iconst 1, 1) := dk_4 (dk_at dksX1_has_0 5 rfl rfl)
theorem dX1_has_6 : decode cX1_has 6 = .ok (.if_icmp .ne 7, 3) := dk_160 0 7 (dk_at dksX1_has_0 6 rfl rfl)
theorem dX1_has_9 : decode cX1_has 9 = .ok (.iconst 1, 1) := dk_4 (dk_at dksX1_has_0 9 rfl rfl)
theorem dX1_has_10 : decode cX1_has 10 = .ok (.goto 4, 3) := dk_167 0 4 (dk_at dksX1_has_0 10 rfl rfl)
theorem dX1_has_13 : decode cX1_has 13 = .ok (.iconst 0, 1) := dk_3 (dk_at dksX1_has_0 13 rfl rfl)
theorem dX1_has_14 : decode cX1_has 14 = .ok (.ireturn, 1) := dk_172 (dk_at dksX1_has_0 14 rfl rfl)
abbrev cX1_placeIn : ByteArray := prog_1_method_4_code
def yX1_placeIn : MethodName := ⟨RX1, "placeIn", "(LSplitpointer$Page;I)I"⟩
def dkwX1_placeIn_1 : List UInt8 := [180, 0, 19, 27, 160, 0, 5, 28, 172, 132, 2, 1, 167, 255, 222, 2, 172]
abbrev dktX1_placeIn_1 : List UInt8 := dkwX1_placeIn_1 ++ []
def dkwX1_placeIn_0 : List UInt8 := [3, 61, 28, 42, 180, 0, 1, 182, 0, 7, 162, 0, 29, 42, 180, 0, 1, 28, 182, 0, 13, 192, 0, 17]
abbrev dktX1_placeIn_0 : List UInt8 := dkwX1_placeIn_0 ++ dktX1_placeIn_1
theorem dksX1_placeIn_0 : cX1_placeIn.data.toList.drop 0 = dktX1_placeIn_0 := by decide +kernel
theorem dksX1_placeIn_1 : cX1_placeIn.data.toList.drop 24 = dktX1_placeIn_1 := dk_seg dksX1_placeIn_0 24 rfl rfl
theorem dX1_placeIn_0 : decode cX1_placeIn 0 = .ok (.iconst 0, 1) := dk_3 (dk_at dksX1_placeIn_0 0 rfl rfl)
theorem dX1_placeIn_1 : decode cX1_placeIn 1 = .ok (.istore_n 2, 1) := dk_61 (dk_at dksX1_placeIn_0 1 rfl rfl)
theorem dX1_placeIn_2 : decode cX1_placeIn 2 = .ok (.iload_n 2, 1) := dk_28 (dk_at dksX1_placeIn_0 2 rfl rfl)
theorem dX1_placeIn_3 : decode cX1_placeIn 3 = .ok (.aload_n 0, 1) := dk_42 (dk_at dksX1_placeIn_0 3 rfl rfl)
theorem dX1_placeIn_4 : decode cX1_placeIn 4 = .ok (.getfield 1, 3) := dk_180 0 1 (dk_at dksX1_placeIn_0 4 rfl rfl)
theorem dX1_placeIn_7 : decode cX1_placeIn 7 = .ok (.invokevirtual 7, 3) := dk_182 0 7 (dk_at dksX1_placeIn_0 7 rfl rfl)
theorem dX1_placeIn_10 : decode cX1_placeIn 10 = .ok (.if_icmp .ge 29, 3) := dk_162 0 29 (dk_at dksX1_placeIn_0 10 rfl rfl)
theorem dX1_placeIn_13 : decode cX1_placeIn 13 = .ok (.aload_n 0, 1) := dk_42 (dk_at dksX1_placeIn_0 13 rfl rfl)
theorem dX1_placeIn_14 : decode cX1_placeIn 14 = .ok (.getfield 1, 3) := dk_180 0 1 (dk_at dksX1_placeIn_0 14 rfl rfl)
theorem dX1_placeIn_17 : decode cX1_placeIn 17 = .ok (.iload_n 2, 1) := dk_28 (dk_at dksX1_placeIn_0 17 rfl rfl)
theorem dX1_placeIn_18 : decode cX1_placeIn 18 = .ok (.invokevirtual 13, 3) := dk_182 0 13 (dk_at dksX1_placeIn_0 18 rfl rfl)
theorem dX1_placeIn_21 : decode cX1_placeIn 21 = .ok (.checkcast 17, 3) := dk_192 0 17 (dk_at dksX1_placeIn_0 21 rfl rfl)
theorem dX1_placeIn_24 : decode cX1_placeIn 24 = .ok (.getfield 19, 3) := dk_180 0 19 (dk_at dksX1_placeIn_1 0 rfl rfl)
theorem dX1_placeIn_27 : decode cX1_placeIn 27 = .ok (.iload_n 1, 1) := dk_27 (dk_at dksX1_placeIn_1 3 rfl rfl)
theorem dX1_placeIn_28 : decode cX1_placeIn 28 = .ok (.if_icmp .ne 5, 3) := dk_160 0 5 (dk_at dksX1_placeIn_1 4 rfl rfl)
theorem dX1_placeIn_31 : decode cX1_placeIn 31 = .ok (.iload_n 2, 1) := dk_28 (dk_at dksX1_placeIn_1 7 rfl rfl)
theorem dX1_placeIn_32 : decode cX1_placeIn 32 = .ok (.ireturn, 1) := dk_172 (dk_at dksX1_placeIn_1 8 rfl rfl)
theorem dX1_placeIn_33 : decode cX1_placeIn 33 = .ok (.iinc 2 1, 3) := dk_132 2 1 (dk_at dksX1_placeIn_1 9 rfl rfl)
theorem dX1_placeIn_36 : decode cX1_placeIn 36 = .ok (.goto (-34), 3) := dk_167 255 222 (dk_at dksX1_placeIn_1 12 rfl rfl)
theorem dX1_placeIn_39 : decode cX1_placeIn 39 = .ok (.iconst (-1), 1) := dk_2 (dk_at dksX1_placeIn_1 15 rfl rfl)
theorem dX1_placeIn_40 : decode cX1_placeIn 40 = .ok (.ireturn, 1) := dk_172 (dk_at dksX1_placeIn_1 16 rfl rfl)
abbrev cX1_marks : ByteArray := prog_1_method_5_code
def yX1_marks : MethodName := ⟨RX1, "marks", "(I)I"⟩
def dkwX1_marks_0 : List UInt8 := [4, 26, 16, 16, 112, 120, 4, 26, 16, 16, 108, 16, 16, 112, 120, 128, 172]
abbrev dktX1_marks_0 : List UInt8 := dkwX1_marks_0 ++ []
theorem dksX1_marks_0 : cX1_marks.data.toList.drop 0 = dktX1_marks_0 := by decide +kernel
theorem dX1_marks_0 : decode cX1_marks 0 = .ok (.iconst 1, 1) := dk_4 (dk_at dksX1_marks_0 0 rfl rfl)
theorem dX1_marks_1 : decode cX1_marks 1 = .ok (.iload_n 0, 1) := dk_26 (dk_at dksX1_marks_0 1 rfl rfl)
theorem dX1_marks_2 : decode cX1_marks 2 = .ok (.bipush 16, 2) := dk_16 16 (dk_at dksX1_marks_0 2 rfl rfl)
theorem dX1_marks_4 : decode cX1_marks 4 = .ok (.irem, 1) := dk_112 (dk_at dksX1_marks_0 4 rfl rfl)
theorem dX1_marks_5 : decode cX1_marks 5 = .ok (.ishl, 1) := dk_120 (dk_at dksX1_marks_0 5 rfl rfl)
theorem dX1_marks_6 : decode cX1_marks 6 = .ok (.iconst 1, 1) := dk_4 (dk_at dksX1_marks_0 6 rfl rfl)
theorem dX1_marks_7 : decode cX1_marks 7 = .ok (.iload_n 0, 1) := dk_26 (dk_at dksX1_marks_0 7 rfl rfl)
theorem dX1_marks_8 : decode cX1_marks 8 = .ok (.bipush 16, 2) := dk_16 16 (dk_at dksX1_marks_0 8 rfl rfl)
theorem dX1_marks_10 : decode cX1_marks 10 = .ok (.idiv, 1) := dk_108 (dk_at dksX1_marks_0 10 rfl rfl)
theorem dX1_marks_11 : decode cX1_marks 11 = .ok (.bipush 16, 2) := dk_16 16 (dk_at dksX1_marks_0 11 rfl rfl)
theorem dX1_marks_13 : decode cX1_marks 13 = .ok (.irem, 1) := dk_112 (dk_at dksX1_marks_0 13 rfl rfl)
theorem dX1_marks_14 : decode cX1_marks 14 = .ok (.ishl, 1) := dk_120 (dk_at dksX1_marks_0 14 rfl rfl)
theorem dX1_marks_15 : decode cX1_marks 15 = .ok (.ior, 1) := dk_128 (dk_at dksX1_marks_0 15 rfl rfl)
theorem dX1_marks_16 : decode cX1_marks 16 = .ok (.ireturn, 1) := dk_172 (dk_at dksX1_marks_0 16 rfl rfl)
abbrev cX1_closeAll : ByteArray := prog_1_method_19_code
def yX1_closeAll : MethodName := ⟨RX1, "closeAll", "()V"⟩
def dkwX1_closeAll_0 : List UInt8 := [3, 60, 27, 6, 162, 0, 16, 42, 180, 0, 57, 27, 3, 84, 132, 1, 1, 167, 255, 241, 177]
abbrev dktX1_closeAll_0 : List UInt8 := dkwX1_closeAll_0 ++ []
theorem dksX1_closeAll_0 : cX1_closeAll.data.toList.drop 0 = dktX1_closeAll_0 := by decide +kernel
theorem dX1_closeAll_0 : decode cX1_closeAll 0 = .ok (.iconst 0, 1) := dk_3 (dk_at dksX1_closeAll_0 0 rfl rfl)
theorem dX1_closeAll_1 : decode cX1_closeAll 1 = .ok (.istore_n 1, 1) := dk_60 (dk_at dksX1_closeAll_0 1 rfl rfl)
theorem dX1_closeAll_2 : decode cX1_closeAll 2 = .ok (.iload_n 1, 1) := dk_27 (dk_at dksX1_closeAll_0 2 rfl rfl)
theorem dX1_closeAll_3 : decode cX1_closeAll 3 = .ok (.iconst 3, 1) := dk_6 (dk_at dksX1_closeAll_0 3 rfl rfl)
theorem dX1_closeAll_4 : decode cX1_closeAll 4 = .ok (.if_icmp .ge 16, 3) := dk_162 0 16 (dk_at dksX1_closeAll_0 4 rfl rfl)
theorem dX1_closeAll_7 : decode cX1_closeAll 7 = .ok (.aload_n 0, 1) := dk_42 (dk_at dksX1_closeAll_0 7 rfl rfl)
theorem dX1_closeAll_8 : decode cX1_closeAll 8 = .ok (.getfield 57, 3) := dk_180 0 57 (dk_at dksX1_closeAll_0 8 rfl rfl)
theorem dX1_closeAll_11 : decode cX1_closeAll 11 = .ok (.iload_n 1, 1) := dk_27 (dk_at dksX1_closeAll_0 11 rfl rfl)
theorem dX1_closeAll_12 : decode cX1_closeAll 12 = .ok (.iconst 0, 1) := dk_3 (dk_at dksX1_closeAll_0 12 rfl rfl)
theorem dX1_closeAll_13 : decode cX1_closeAll 13 = .ok (.bastore, 1) := dk_84 (dk_at dksX1_closeAll_0 13 rfl rfl)
theorem dX1_closeAll_14 : decode cX1_closeAll 14 = .ok (.iinc 1 1, 3) := dk_132 1 1 (dk_at dksX1_closeAll_0 14 rfl rfl)
theorem dX1_closeAll_17 : decode cX1_closeAll 17 = .ok (.goto (-15), 3) := dk_167 255 241 (dk_at dksX1_closeAll_0 17 rfl rfl)
theorem dX1_closeAll_20 : decode cX1_closeAll 20 = .ok (.return_, 1) := dk_177 (dk_at dksX1_closeAll_0 20 rfl rfl)
abbrev cX1_knock : ByteArray := prog_1_method_35_code
def yX1_knock : MethodName := ⟨RX1, "knock", "()I"⟩
def dkwX1_knock_0 : List UInt8 := [42, 89, 180, 0, 246, 4, 96, 181, 0, 246, 42, 180, 0, 246, 172]
abbrev dktX1_knock_0 : List UInt8 := dkwX1_knock_0 ++ []
theorem dksX1_knock_0 : cX1_knock.data.toList.drop 0 = dktX1_knock_0 := by decide +kernel
theorem dX1_knock_0 : decode cX1_knock 0 = .ok (.aload_n 0, 1) := dk_42 (dk_at dksX1_knock_0 0 rfl rfl)
theorem dX1_knock_1 : decode cX1_knock 1 = .ok (.dup, 1) := dk_89 (dk_at dksX1_knock_0 1 rfl rfl)
theorem dX1_knock_2 : decode cX1_knock 2 = .ok (.getfield 246, 3) := dk_180 0 246 (dk_at dksX1_knock_0 2 rfl rfl)
theorem dX1_knock_5 : decode cX1_knock 5 = .ok (.iconst 1, 1) := dk_4 (dk_at dksX1_knock_0 5 rfl rfl)
theorem dX1_knock_6 : decode cX1_knock 6 = .ok (.iadd, 1) := dk_96 (dk_at dksX1_knock_0 6 rfl rfl)
theorem dX1_knock_7 : decode cX1_knock 7 = .ok (.putfield 246, 3) := dk_181 0 246 (dk_at dksX1_knock_0 7 rfl rfl)
theorem dX1_knock_10 : decode cX1_knock 10 = .ok (.aload_n 0, 1) := dk_42 (dk_at dksX1_knock_0 10 rfl rfl)
theorem dX1_knock_11 : decode cX1_knock 11 = .ok (.getfield 246, 3) := dk_180 0 246 (dk_at dksX1_knock_0 11 rfl rfl)
theorem dX1_knock_14 : decode cX1_knock 14 = .ok (.ireturn, 1) := dk_172 (dk_at dksX1_knock_0 14 rfl rfl)
abbrev cX1_isSound : ByteArray := prog_1_method_61_code
def yX1_isSound : MethodName := ⟨RX1, "isSound", "()Z"⟩
theorem dX1_isSound_0 : decode cX1_isSound 0 = .ok (.aload_n 0, 1) := by decide +kernel
theorem dX1_isSound_1 : decode cX1_isSound 1 = .ok (.invokevirtual 379, 3) := by decide +kernel
theorem dX1_isSound_4 : decode cX1_isSound 4 = .ok (.ireturn, 1) := by decide +kernel
abbrev cX1_isSoundNow : ByteArray := prog_1_method_60_code
def yX1_isSoundNow : MethodName := ⟨RX1, "isSoundNow", "()Z"⟩
def dkwX1_isSoundNow_10 : List UInt8 := [3, 172]
abbrev dktX1_isSoundNow_10 : List UInt8 := dkwX1_isSoundNow_10 ++ []
def dkwX1_isSoundNow_9 : List UInt8 := [160, 0, 24, 42, 180, 0, 39, 180, 0, 224, 42, 180, 0, 39, 182, 1, 120, 162, 0, 7, 4, 167, 0, 4]
abbrev dktX1_isSoundNow_9 : List UInt8 := dkwX1_isSoundNow_9 ++ dktX1_isSoundNow_10
def dkwX1_isSoundNow_8 : List UInt8 := [153, 0, 46, 27, 42, 180, 0, 39, 180, 0, 135, 160, 0, 35, 28, 42, 180, 0, 39, 182, 0, 180]
abbrev dktX1_isSoundNow_8 : List UInt8 := dkwX1_isSoundNow_8 ++ dktX1_isSoundNow_9
def dkwX1_isSoundNow_7 : List UInt8 := [180, 0, 97, 42, 180, 0, 47, 182, 0, 7, 163, 0, 7, 4, 167, 0, 4, 3, 54, 4, 21, 4]
abbrev dktX1_isSoundNow_7 : List UInt8 := dkwX1_isSoundNow_7 ++ dktX1_isSoundNow_8
def dkwX1_isSoundNow_6 : List UInt8 := [167, 255, 128, 42, 180, 0, 47, 182, 0, 7, 42, 180, 0, 97, 100, 42, 180, 0, 31, 162, 0, 21, 42]
abbrev dktX1_isSoundNow_6 : List UInt8 := dkwX1_isSoundNow_6 ++ dktX1_isSoundNow_7
def dkwX1_isSoundNow_5 : List UInt8 := [180, 0, 39, 180, 0, 82, 21, 4, 182, 0, 13, 192, 0, 88, 182, 1, 41, 96, 60, 132, 4, 1]
abbrev dktX1_isSoundNow_5 : List UInt8 := dkwX1_isSoundNow_5 ++ dktX1_isSoundNow_6
def dkwX1_isSoundNow_4 : List UInt8 := [21, 6, 182, 0, 13, 192, 0, 2, 180, 1, 5, 4, 84, 132, 2, 1, 132, 6, 1, 167, 255, 204, 27, 42]
abbrev dktX1_isSoundNow_4 : List UInt8 := dkwX1_isSoundNow_4 ++ dktX1_isSoundNow_5
def dkwX1_isSoundNow_3 : List UInt8 := [45, 25, 5, 21, 6, 182, 0, 13, 192, 0, 2, 180, 1, 5, 51, 153, 0, 5, 3, 172, 45, 25, 5]
abbrev dktX1_isSoundNow_3 : List UInt8 := dkwX1_isSoundNow_3 ++ dktX1_isSoundNow_4
def dkwX1_isSoundNow_2 : List UInt8 := [182, 0, 13, 192, 0, 88, 180, 0, 195, 58, 5, 3, 54, 6, 21, 6, 25, 5, 182, 0, 7, 162, 0, 48]
abbrev dktX1_isSoundNow_2 : List UInt8 := dkwX1_isSoundNow_2 ++ dktX1_isSoundNow_3
def dkwX1_isSoundNow_1 : List UInt8 := [162, 0, 119, 42, 21, 4, 182, 1, 117, 154, 0, 5, 3, 172, 42, 180, 0, 39, 180, 0, 82, 21, 4]
abbrev dktX1_isSoundNow_1 : List UInt8 := dkwX1_isSoundNow_1 ++ dktX1_isSoundNow_2
def dkwX1_isSoundNow_0 : List UInt8 := [3, 60, 3, 61, 16, 96, 188, 4, 78, 3, 54, 4, 21, 4, 42, 180, 0, 39, 180, 0, 82, 182, 0, 7]
abbrev dktX1_isSoundNow_0 : List UInt8 := dkwX1_isSoundNow_0 ++ dktX1_isSoundNow_1
theorem dksX1_isSoundNow_0 : cX1_isSoundNow.data.toList.drop 0 = dktX1_isSoundNow_0 := by decide +kernel
theorem dksX1_isSoundNow_1 : cX1_isSoundNow.data.toList.drop 24 = dktX1_isSoundNow_1 := dk_seg dksX1_isSoundNow_0 24 rfl rfl
theorem dksX1_isSoundNow_2 : cX1_isSoundNow.data.toList.drop 47 = dktX1_isSoundNow_2 := dk_seg dksX1_isSoundNow_1 23 rfl rfl
theorem dksX1_isSoundNow_3 : cX1_isSoundNow.data.toList.drop 71 = dktX1_isSoundNow_3 := dk_seg dksX1_isSoundNow_2 24 rfl rfl
theorem dksX1_isSoundNow_4 : cX1_isSoundNow.data.toList.drop 94 = dktX1_isSoundNow_4 := dk_seg dksX1_isSoundNow_3 23 rfl rfl
theorem dksX1_isSoundNow_5 : cX1_isSoundNow.data.toList.drop 118 = dktX1_isSoundNow_5 := dk_seg dksX1_isSoundNow_4 24 rfl rfl
theorem dksX1_isSoundNow_6 : cX1_isSoundNow.data.toList.drop 140 = dktX1_isSoundNow_6 := dk_seg dksX1_isSoundNow_5 22 rfl rfl
theorem dksX1_isSoundNow_7 : cX1_isSoundNow.data.toList.drop 163 = dktX1_isSoundNow_7 := dk_seg dksX1_isSoundNow_6 23 rfl rfl
theorem dksX1_isSoundNow_8 : cX1_isSoundNow.data.toList.drop 185 = dktX1_isSoundNow_8 := dk_seg dksX1_isSoundNow_7 22 rfl rfl
theorem dksX1_isSoundNow_9 : cX1_isSoundNow.data.toList.drop 207 = dktX1_isSoundNow_9 := dk_seg dksX1_isSoundNow_8 22 rfl rfl
theorem dksX1_isSoundNow_10 : cX1_isSoundNow.data.toList.drop 231 = dktX1_isSoundNow_10 := dk_seg dksX1_isSoundNow_9 24 rfl rfl
theorem dX1_isSoundNow_0 : decode cX1_isSoundNow 0 = .ok (.iconst 0, 1) := dk_3 (dk_at dksX1_isSoundNow_0 0 rfl rfl)
theorem dX1_isSoundNow_1 : decode cX1_isSoundNow 1 = .ok (.istore_n 1, 1) := dk_60 (dk_at dksX1_isSoundNow_0 1 rfl rfl)
theorem dX1_isSoundNow_2 : decode cX1_isSoundNow 2 = .ok (.iconst 0, 1) := dk_3 (dk_at dksX1_isSoundNow_0 2 rfl rfl)
theorem dX1_isSoundNow_3 : decode cX1_isSoundNow 3 = .ok (.istore_n 2, 1) := dk_61 (dk_at dksX1_isSoundNow_0 3 rfl rfl)
theorem dX1_isSoundNow_4 : decode cX1_isSoundNow 4 = .ok (.bipush 96, 2) := dk_16 96 (dk_at dksX1_isSoundNow_0 4 rfl rfl)
theorem dX1_isSoundNow_6 : decode cX1_isSoundNow 6 = .ok (.newarray .boolean, 2) := dk_188_4 (dk_at dksX1_isSoundNow_0 6 rfl rfl)
theorem dX1_isSoundNow_8 : decode cX1_isSoundNow 8 = .ok (.astore_n 3, 1) := dk_78 (dk_at dksX1_isSoundNow_0 8 rfl rfl)
theorem dX1_isSoundNow_9 : decode cX1_isSoundNow 9 = .ok (.iconst 0, 1) := dk_3 (dk_at dksX1_isSoundNow_0 9 rfl rfl)
theorem dX1_isSoundNow_10 : decode cX1_isSoundNow 10 = .ok (.istore 4, 2) := dk_54 4 (dk_at dksX1_isSoundNow_0 10 rfl rfl)
theorem dX1_isSoundNow_12 : decode cX1_isSoundNow 12 = .ok (.iload 4, 2) := dk_21 4 (dk_at dksX1_isSoundNow_0 12 rfl rfl)
theorem dX1_isSoundNow_14 : decode cX1_isSoundNow 14 = .ok (.aload_n 0, 1) := dk_42 (dk_at dksX1_isSoundNow_0 14 rfl rfl)
theorem dX1_isSoundNow_15 : decode cX1_isSoundNow 15 = .ok (.getfield 39, 3) := dk_180 0 39 (dk_at dksX1_isSoundNow_0 15 rfl rfl)
theorem dX1_isSoundNow_18 : decode cX1_isSoundNow 18 = .ok (.getfield 82, 3) := dk_180 0 82 (dk_at dksX1_isSoundNow_0 18 rfl rfl)
theorem dX1_isSoundNow_21 : decode cX1_isSoundNow 21 = .ok (.invokevirtual 7, 3) := dk_182 0 7 (dk_at dksX1_isSoundNow_0 21 rfl rfl)
theorem dX1_isSoundNow_24 : decode cX1_isSoundNow 24 = .ok (.if_icmp .ge 119, 3) := dk_162 0 119 (dk_at dksX1_isSoundNow_1 0 rfl rfl)
theorem dX1_isSoundNow_27 : decode cX1_isSoundNow 27 = .ok (.aload_n 0, 1) := dk_42 (dk_at dksX1_isSoundNow_1 3 rfl rfl)
theorem dX1_isSoundNow_28 : decode cX1_isSoundNow 28 = .ok (.iload 4, 2) := dk_21 4 (dk_at dksX1_isSoundNow_1 4 rfl rfl)
theorem dX1_isSoundNow_30 : decode cX1_isSoundNow 30 = .ok (.invokevirtual 373, 3) := dk_182 1 117 (dk_at dksX1_isSoundNow_1 6 rfl rfl)
theorem dX1_isSoundNow_33 : decode cX1_isSoundNow 33 = .ok (.ifCond .ne 5, 3) := dk_154 0 5 (dk_at dksX1_isSoundNow_1 9 rfl rfl)
theorem dX1_isSoundNow_36 : decode cX1_isSoundNow 36 = .ok (.iconst 0, 1) := dk_3 (dk_at dksX1_isSoundNow_1 12 rfl rfl)
theorem dX1_isSoundNow_37 : decode cX1_isSoundNow 37 = .ok (.ireturn, 1) := dk_172 (dk_at dksX1_isSoundNow_1 13 rfl rfl)
theorem dX1_isSoundNow_38 : decode cX1_isSoundNow 38 = .ok (.aload_n 0, 1) := dk_42 (dk_at dksX1_isSoundNow_1 14 rfl rfl)
theorem dX1_isSoundNow_39 : decode cX1_isSoundNow 39 = .ok (.getfield 39, 3) := dk_180 0 39 (dk_at dksX1_isSoundNow_1 15 rfl rfl)
theorem dX1_isSoundNow_42 : decode cX1_isSoundNow 42 = .ok (.getfield 82, 3) := dk_180 0 82 (dk_at dksX1_isSoundNow_1 18 rfl rfl)
theorem dX1_isSoundNow_45 : decode cX1_isSoundNow 45 = .ok (.iload 4, 2) := dk_21 4 (dk_at dksX1_isSoundNow_1 21 rfl rfl)
theorem dX1_isSoundNow_47 : decode cX1_isSoundNow 47 = .ok (.invokevirtual 13, 3) := dk_182 0 13 (dk_at dksX1_isSoundNow_2 0 rfl rfl)
theorem dX1_isSoundNow_50 : decode cX1_isSoundNow 50 = .ok (.checkcast 88, 3) := dk_192 0 88 (dk_at dksX1_isSoundNow_2 3 rfl rfl)
theorem dX1_isSoundNow_53 : decode cX1_isSoundNow 53 = .ok (.getfield 195, 3) := dk_180 0 195 (dk_at dksX1_isSoundNow_2 6 rfl rfl)
theorem dX1_isSoundNow_56 : decode cX1_isSoundNow 56 = .ok (.astore 5, 2) := dk_58 5 (dk_at dksX1_isSoundNow_2 9 rfl rfl)
theorem dX1_isSoundNow_58 : decode cX1_isSoundNow 58 = .ok (.iconst 0, 1) := dk_3 (dk_at dksX1_isSoundNow_2 11 rfl rfl)
theorem dX1_isSoundNow_59 : decode cX1_isSoundNow 59 = .ok (.istore 6, 2) := dk_54 6 (dk_at dksX1_isSoundNow_2 12 rfl rfl)
theorem dX1_isSoundNow_61 : decode cX1_isSoundNow 61 = .ok (.iload 6, 2) := dk_21 6 (dk_at dksX1_isSoundNow_2 14 rfl rfl)
theorem dX1_isSoundNow_63 : decode cX1_isSoundNow 63 = .ok (.aload 5, 2) := dk_25 5 (dk_at dksX1_isSoundNow_2 16 rfl rfl)
theorem dX1_isSoundNow_65 : decode cX1_isSoundNow 65 = .ok (.invokevirtual 7, 3) := dk_182 0 7 (dk_at dksX1_isSoundNow_2 18 rfl rfl)
theorem dX1_isSoundNow_68 : decode cX1_isSoundNow 68 = .ok (.if_icmp .ge 48, 3) := dk_162 0 48 (dk_at dksX1_isSoundNow_2 21 rfl rfl)
theorem dX1_isSoundNow_71 : decode cX1_isSoundNow 71 = .ok (.aload_n 3, 1) := dk_45 (dk_at dksX1_isSoundNow_3 0 rfl rfl)
theorem dX1_isSoundNow_72 : decode cX1_isSoundNow 72 = .ok (.aload 5, 2) := dk_25 5 (dk_at dksX1_isSoundNow_3 1 rfl rfl)
theorem dX1_isSoundNow_74 : decode cX1_isSoundNow 74 = .ok (.iload 6, 2) := dk_21 6 (dk_at dksX1_isSoundNow_3 3 rfl rfl)
theorem dX1_isSoundNow_76 : decode cX1_isSoundNow 76 = .ok (.invokevirtual 13, 3) := dk_182 0 13 (dk_at dksX1_isSoundNow_3 5 rfl rfl)
theorem dX1_isSoundNow_79 : decode cX1_isSoundNow 79 = .ok (.checkcast 2, 3) := dk_192 0 2 (dk_at dksX1_isSoundNow_3 8 rfl rfl)
theorem dX1_isSoundNow_82 : decode cX1_isSoundNow 82 = .ok (.getfield 261, 3) := dk_180 1 5 (dk_at dksX1_isSoundNow_3 11 rfl rfl)
theorem dX1_isSoundNow_85 : decode cX1_isSoundNow 85 = .ok (.baload, 1) := dk_51 (dk_at dksX1_isSoundNow_3 14 rfl rfl)
theorem dX1_isSoundNow_86 : decode cX1_isSoundNow 86 = .ok (.ifCond .eq 5, 3) := dk_153 0 5 (dk_at dksX1_isSoundNow_3 15 rfl rfl)
theorem dX1_isSoundNow_89 : decode cX1_isSoundNow 89 = .ok (.iconst 0, 1) := dk_3 (dk_at dksX1_isSoundNow_3 18 rfl rfl)
theorem dX1_isSoundNow_90 : decode cX1_isSoundNow 90 = .ok (.ireturn, 1) := dk_172 (dk_at dksX1_isSoundNow_3 19 rfl rfl)
theorem dX1_isSoundNow_91 : decode cX1_isSoundNow 91 = .ok (.aload_n 3, 1) := dk_45 (dk_at dksX1_isSoundNow_3 20 rfl rfl)
theorem dX1_isSoundNow_92 : decode cX1_isSoundNow 92 = .ok (.aload 5, 2) := dk_25 5 (dk_at dksX1_isSoundNow_3 21 rfl rfl)
theorem dX1_isSoundNow_94 : decode cX1_isSoundNow 94 = .ok (.iload 6, 2) := dk_21 6 (dk_at dksX1_isSoundNow_4 0 rfl rfl)
theorem dX1_isSoundNow_96 : decode cX1_isSoundNow 96 = .ok (.invokevirtual 13, 3) := dk_182 0 13 (dk_at dksX1_isSoundNow_4 2 rfl rfl)
theorem dX1_isSoundNow_99 : decode cX1_isSoundNow 99 = .ok (.checkcast 2, 3) := dk_192 0 2 (dk_at dksX1_isSoundNow_4 5 rfl rfl)
theorem dX1_isSoundNow_102 : decode cX1_isSoundNow 102 = .ok (.getfield 261, 3) := dk_180 1 5 (dk_at dksX1_isSoundNow_4 8 rfl rfl)
theorem dX1_isSoundNow_105 : decode cX1_isSoundNow 105 = .ok (.iconst 1, 1) := dk_4 (dk_at dksX1_isSoundNow_4 11 rfl rfl)
theorem dX1_isSoundNow_106 : decode cX1_isSoundNow 106 = .ok (.bastore, 1) := dk_84 (dk_at dksX1_isSoundNow_4 12 rfl rfl)
theorem dX1_isSoundNow_107 : decode cX1_isSoundNow 107 = .ok (.iinc 2 1, 3) := dk_132 2 1 (dk_at dksX1_isSoundNow_4 13 rfl rfl)
theorem dX1_isSoundNow_110 : decode cX1_isSoundNow 110 = .ok (.iinc 6 1, 3) := dk_132 6 1 (dk_at dksX1_isSoundNow_4 16 rfl rfl)
theorem dX1_isSoundNow_113 : decode cX1_isSoundNow 113 = .ok (.goto (-52), 3) := dk_167 255 204 (dk_at dksX1_isSoundNow_4 19 rfl rfl)
theorem dX1_isSoundNow_116 : decode cX1_isSoundNow 116 = .ok (.iload_n 1, 1) := dk_27 (dk_at dksX1_isSoundNow_4 22 rfl rfl)
theorem dX1_isSoundNow_117 : decode cX1_isSoundNow 117 = .ok (.aload_n 0, 1) := dk_42 (dk_at dksX1_isSoundNow_4 23 rfl rfl)
theorem dX1_isSoundNow_118 : decode cX1_isSoundNow 118 = .ok (.getfield 39, 3) := dk_180 0 39 (dk_at dksX1_isSoundNow_5 0 rfl rfl)
theorem dX1_isSoundNow_121 : decode cX1_isSoundNow 121 = .ok (.getfield 82, 3) := dk_180 0 82 (dk_at dksX1_isSoundNow_5 3 rfl rfl)
theorem dX1_isSoundNow_124 : decode cX1_isSoundNow 124 = .ok (.iload 4, 2) := dk_21 4 (dk_at dksX1_isSoundNow_5 6 rfl rfl)
theorem dX1_isSoundNow_126 : decode cX1_isSoundNow 126 = .ok (.invokevirtual 13, 3) := dk_182 0 13 (dk_at dksX1_isSoundNow_5 8 rfl rfl)
theorem dX1_isSoundNow_129 : decode cX1_isSoundNow 129 = .ok (.checkcast 88, 3) := dk_192 0 88 (dk_at dksX1_isSoundNow_5 11 rfl rfl)
theorem dX1_isSoundNow_132 : decode cX1_isSoundNow 132 = .ok (.invokevirtual 297, 3) := dk_182 1 41 (dk_at dksX1_isSoundNow_5 14 rfl rfl)
theorem dX1_isSoundNow_135 : decode cX1_isSoundNow 135 = .ok (.iadd, 1) := dk_96 (dk_at dksX1_isSoundNow_5 17 rfl rfl)
theorem dX1_isSoundNow_136 : decode cX1_isSoundNow 136 = .ok (.istore_n 1, 1) := dk_60 (dk_at dksX1_isSoundNow_5 18 rfl rfl)
theorem dX1_isSoundNow_137 : decode cX1_isSoundNow 137 = .ok (.iinc 4 1, 3) := dk_132 4 1 (dk_at dksX1_isSoundNow_5 19 rfl rfl)
theorem dX1_isSoundNow_140 : decode cX1_isSoundNow 140 = .ok (.goto (-128), 3) := dk_167 255 128 (dk_at dksX1_isSoundNow_6 0 rfl rfl)
theorem dX1_isSoundNow_143 : decode cX1_isSoundNow 143 = .ok (.aload_n 0, 1) := dk_42 (dk_at dksX1_isSoundNow_6 3 rfl rfl)
theorem dX1_isSoundNow_144 : decode cX1_isSoundNow 144 = .ok (.getfield 47, 3) := dk_180 0 47 (dk_at dksX1_isSoundNow_6 4 rfl rfl)
theorem dX1_isSoundNow_147 : decode cX1_isSoundNow 147 = .ok (.invokevirtual 7, 3) := dk_182 0 7 (dk_at dksX1_isSoundNow_6 7 rfl rfl)
theorem dX1_isSoundNow_150 : decode cX1_isSoundNow 150 = .ok (.aload_n 0, 1) := dk_42 (dk_at dksX1_isSoundNow_6 10 rfl rfl)
theorem dX1_isSoundNow_151 : decode cX1_isSoundNow 151 = .ok (.getfield 97, 3) := dk_180 0 97 (dk_at dksX1_isSoundNow_6 11 rfl rfl)
theorem dX1_isSoundNow_154 : decode cX1_isSoundNow 154 = .ok (.isub, 1) := dk_100 (dk_at dksX1_isSoundNow_6 14 rfl rfl)
theorem dX1_isSoundNow_155 : decode cX1_isSoundNow 155 = .ok (.aload_n 0, 1) := dk_42 (dk_at dksX1_isSoundNow_6 15 rfl rfl)
theorem dX1_isSoundNow_156 : decode cX1_isSoundNow 156 = .ok (.getfield 31, 3) := dk_180 0 31 (dk_at dksX1_isSoundNow_6 16 rfl rfl)
theorem dX1_isSoundNow_159 : decode cX1_isSoundNow 159 = .ok (.if_icmp .ge 21, 3) := dk_162 0 21 (dk_at dksX1_isSoundNow_6 19 rfl rfl)
theorem dX1_isSoundNow_162 : decode cX1_isSoundNow 162 = .ok (.aload_n 0, 1) := dk_42 (dk_at dksX1_isSoundNow_6 22 rfl rfl)
theorem dX1_isSoundNow_163 : decode cX1_isSoundNow 163 = .ok (.getfield 97, 3) := dk_180 0 97 (dk_at dksX1_isSoundNow_7 0 rfl rfl)
theorem dX1_isSoundNow_166 : decode cX1_isSoundNow 166 = .ok (.aload_n 0, 1) := dk_42 (dk_at dksX1_isSoundNow_7 3 rfl rfl)
theorem dX1_isSoundNow_167 : decode cX1_isSoundNow 167 = .ok (.getfield 47, 3) := dk_180 0 47 (dk_at dksX1_isSoundNow_7 4 rfl rfl)
theorem dX1_isSoundNow_170 : decode cX1_isSoundNow 170 = .ok (.invokevirtual 7, 3) := dk_182 0 7 (dk_at dksX1_isSoundNow_7 7 rfl rfl)
theorem dX1_isSoundNow_173 : decode cX1_isSoundNow 173 = .ok (.if_icmp .gt 7, 3) := dk_163 0 7 (dk_at dksX1_isSoundNow_7 10 rfl rfl)
theorem dX1_isSoundNow_176 : decode cX1_isSoundNow 176 = .ok (.iconst 1, 1) := dk_4 (dk_at dksX1_isSoundNow_7 13 rfl rfl)
theorem dX1_isSoundNow_177 : decode cX1_isSoundNow 177 = .ok (.goto 4, 3) := dk_167 0 4 (dk_at dksX1_isSoundNow_7 14 rfl rfl)
theorem dX1_isSoundNow_180 : decode cX1_isSoundNow 180 = .ok (.iconst 0, 1) := dk_3 (dk_at dksX1_isSoundNow_7 17 rfl rfl)
theorem dX1_isSoundNow_181 : decode cX1_isSoundNow 181 = .ok (.istore 4, 2) := dk_54 4 (dk_at dksX1_isSoundNow_7 18 rfl rfl)
theorem dX1_isSoundNow_183 : decode cX1_isSoundNow 183 = .ok (.iload 4, 2) := dk_21 4 (dk_at dksX1_isSoundNow_7 20 rfl rfl)
theorem dX1_isSoundNow_185 : decode cX1_isSoundNow 185 = .ok (.ifCond .eq 46, 3) := dk_153 0 46 (dk_at dksX1_isSoundNow_8 0 rfl rfl)
theorem dX1_isSoundNow_188 : decode cX1_isSoundNow 188 = .ok (.iload_n 1, 1) := dk_27 (dk_at dksX1_isSoundNow_8 3 rfl rfl)
theorem dX1_isSoundNow_189 : decode cX1_isSoundNow 189 = .ok (.aload_n 0, 1) := dk_42 (dk_at dksX1_isSoundNow_8 4 rfl rfl)
theorem dX1_isSoundNow_190 : decode cX1_isSoundNow 190 = .ok (.getfield 39, 3) := dk_180 0 39 (dk_at dksX1_isSoundNow_8 5 rfl rfl)
theorem dX1_isSoundNow_193 : decode cX1_isSoundNow 193 = .ok (.getfield 135, 3) := dk_180 0 135 (dk_at dksX1_isSoundNow_8 8 rfl rfl)
theorem dX1_isSoundNow_196 : decode cX1_isSoundNow 196 = .ok (.if_icmp .ne 35, 3) := dk_160 0 35 (dk_at dksX1_isSoundNow_8 11 rfl rfl)
theorem dX1_isSoundNow_199 : decode cX1_isSoundNow 199 = .ok (.iload_n 2, 1) := dk_28 (dk_at dksX1_isSoundNow_8 14 rfl rfl)
theorem dX1_isSoundNow_200 : decode cX1_isSoundNow 200 = .ok (.aload_n 0, 1) := dk_42 (dk_at dksX1_isSoundNow_8 15 rfl rfl)
theorem dX1_isSoundNow_201 : decode cX1_isSoundNow 201 = .ok (.getfield 39, 3) := dk_180 0 39 (dk_at dksX1_isSoundNow_8 16 rfl rfl)
theorem dX1_isSoundNow_204 : decode cX1_isSoundNow 204 = .ok (.invokevirtual 180, 3) := dk_182 0 180 (dk_at dksX1_isSoundNow_8 19 rfl rfl)
theorem dX1_isSoundNow_207 : decode cX1_isSoundNow 207 = .ok (.if_icmp .ne 24, 3) := dk_160 0 24 (dk_at dksX1_isSoundNow_9 0 rfl rfl)
theorem dX1_isSoundNow_210 : decode cX1_isSoundNow 210 = .ok (.aload_n 0, 1) := dk_42 (dk_at dksX1_isSoundNow_9 3 rfl rfl)
theorem dX1_isSoundNow_211 : decode cX1_isSoundNow 211 = .ok (.getfield 39, 3) := dk_180 0 39 (dk_at dksX1_isSoundNow_9 4 rfl rfl)
theorem dX1_isSoundNow_214 : decode cX1_isSoundNow 214 = .ok (.getfield 224, 3) := dk_180 0 224 (dk_at dksX1_isSoundNow_9 7 rfl rfl)
theorem dX1_isSoundNow_217 : decode cX1_isSoundNow 217 = .ok (.aload_n 0, 1) := dk_42 (dk_at dksX1_isSoundNow_9 10 rfl rfl)
theorem dX1_isSoundNow_218 : decode cX1_isSoundNow 218 = .ok (.getfield 39, 3) := dk_180 0 39 (dk_at dksX1_isSoundNow_9 11 rfl rfl)
theorem dX1_isSoundNow_221 : decode cX1_isSoundNow 221 = .ok (.invokevirtual 376, 3) := dk_182 1 120 (dk_at dksX1_isSoundNow_9 14 rfl rfl)
theorem dX1_isSoundNow_224 : decode cX1_isSoundNow 224 = .ok (.if_icmp .ge 7, 3) := dk_162 0 7 (dk_at dksX1_isSoundNow_9 17 rfl rfl)
theorem dX1_isSoundNow_227 : decode cX1_isSoundNow 227 = .ok (.iconst 1, 1) := dk_4 (dk_at dksX1_isSoundNow_9 20 rfl rfl)
theorem dX1_isSoundNow_228 : decode cX1_isSoundNow 228 = .ok (.goto 4, 3) := dk_167 0 4 (dk_at dksX1_isSoundNow_9 21 rfl rfl)
theorem dX1_isSoundNow_231 : decode cX1_isSoundNow 231 = .ok (.iconst 0, 1) := dk_3 (dk_at dksX1_isSoundNow_10 0 rfl rfl)
theorem dX1_isSoundNow_232 : decode cX1_isSoundNow 232 = .ok (.ireturn, 1) := dk_172 (dk_at dksX1_isSoundNow_10 1 rfl rfl)
abbrev cX1_isBucketSound : ByteArray := prog_1_method_59_code
def yX1_isBucketSound : MethodName := ⟨RX1, "isBucketSound", "(I)Z"⟩
def dkwX1_isBucketSound_5 : List UInt8 := [3, 172, 132, 6, 1, 167, 255, 217, 132, 4, 1, 167, 255, 151, 42, 44, 182, 1, 113, 172]
abbrev dktX1_isBucketSound_5 : List UInt8 := dkwX1_isBucketSound_5 ++ []
def dkwX1_isBucketSound_4 : List UInt8 := [182, 0, 13, 192, 0, 17, 180, 0, 19, 45, 21, 4, 182, 0, 13, 192, 0, 17, 180, 0, 19, 160, 0, 5]
abbrev dktX1_isBucketSound_4 : List UInt8 := dkwX1_isBucketSound_4 ++ dktX1_isBucketSound_5
def dkwX1_isBucketSound_3 : List UInt8 := [44, 21, 5, 182, 0, 191, 154, 0, 5, 3, 172, 3, 54, 6, 21, 6, 21, 4, 162, 0, 38, 45, 21, 6]
abbrev dktX1_isBucketSound_3 : List UInt8 := dkwX1_isBucketSound_3 ++ dktX1_isBucketSound_4
def dkwX1_isBucketSound_2 : List UInt8 := [192, 0, 17, 180, 0, 19, 182, 0, 187, 54, 5, 42, 180, 0, 39, 21, 5, 182, 1, 0, 27, 160, 0, 12]
abbrev dktX1_isBucketSound_2 : List UInt8 := dkwX1_isBucketSound_2 ++ dktX1_isBucketSound_3
def dkwX1_isBucketSound_1 : List UInt8 := [21, 4, 45, 182, 0, 7, 162, 0, 102, 42, 180, 0, 39, 180, 0, 117, 45, 21, 4, 182, 0, 13]
abbrev dktX1_isBucketSound_1 : List UInt8 := dkwX1_isBucketSound_1 ++ dktX1_isBucketSound_2
def dkwX1_isBucketSound_0 : List UInt8 := [42, 180, 0, 39, 180, 0, 82, 27, 182, 0, 13, 192, 0, 88, 77, 44, 182, 0, 113, 78, 3, 54, 4]
abbrev dktX1_isBucketSound_0 : List UInt8 := dkwX1_isBucketSound_0 ++ dktX1_isBucketSound_1
theorem dksX1_isBucketSound_0 : cX1_isBucketSound.data.toList.drop 0 = dktX1_isBucketSound_0 := by decide +kernel
theorem dksX1_isBucketSound_1 : cX1_isBucketSound.data.toList.drop 23 = dktX1_isBucketSound_1 := dk_seg dksX1_isBucketSound_0 23 rfl rfl
theorem dksX1_isBucketSound_2 : cX1_isBucketSound.data.toList.drop 45 = dktX1_isBucketSound_2 := dk_seg dksX1_isBucketSound_1 22 rfl rfl
theorem dksX1_isBucketSound_3 : cX1_isBucketSound.data.toList.drop 69 = dktX1_isBucketSound_3 := dk_seg dksX1_isBucketSound_2 24 rfl rfl
theorem dksX1_isBucketSound_4 : cX1_isBucketSound.data.toList.drop 93 = dktX1_isBucketSound_4 := dk_seg dksX1_isBucketSound_3 24 rfl rfl
theorem dksX1_isBucketSound_5 : cX1_isBucketSound.data.toList.drop 117 = dktX1_isBucketSound_5 := dk_seg dksX1_isBucketSound_4 24 rfl rfl
theorem dX1_isBucketSound_0 : decode cX1_isBucketSound 0 = .ok (.aload_n 0, 1) := dk_42 (dk_at dksX1_isBucketSound_0 0 rfl rfl)
theorem dX1_isBucketSound_1 : decode cX1_isBucketSound 1 = .ok (.getfield 39, 3) := dk_180 0 39 (dk_at dksX1_isBucketSound_0 1 rfl rfl)
theorem dX1_isBucketSound_4 : decode cX1_isBucketSound 4 = .ok (.getfield 82, 3) := dk_180 0 82 (dk_at dksX1_isBucketSound_0 4 rfl rfl)
theorem dX1_isBucketSound_7 : decode cX1_isBucketSound 7 = .ok (.iload_n 1, 1) := dk_27 (dk_at dksX1_isBucketSound_0 7 rfl rfl)
theorem dX1_isBucketSound_8 : decode cX1_isBucketSound 8 = .ok (.invokevirtual 13, 3) := dk_182 0 13 (dk_at dksX1_isBucketSound_0 8 rfl rfl)
theorem dX1_isBucketSound_11 : decode cX1_isBucketSound 11 = .ok (.checkcast 88, 3) := dk_192 0 88 (dk_at dksX1_isBucketSound_0 11 rfl rfl)
theorem dX1_isBucketSound_14 : decode cX1_isBucketSound 14 = .ok (.astore_n 2, 1) := dk_77 (dk_at dksX1_isBucketSound_0 14 rfl rfl)
theorem dX1_isBucketSound_15 : decode cX1_isBucketSound 15 = .ok (.aload_n 2, 1) := dk_44 (dk_at dksX1_isBucketSound_0 15 rfl rfl)
theorem dX1_isBucketSound_16 : decode cX1_isBucketSound 16 = .ok (.invokevirtual 113, 3) := dk_182 0 113 (dk_at dksX1_isBucketSound_0 16 rfl rfl)
theorem dX1_isBucketSound_19 : decode cX1_isBucketSound 19 = .ok (.astore_n 3, 1) := dk_78 (dk_at dksX1_isBucketSound_0 19 rfl rfl)
theorem dX1_isBucketSound_20 : decode cX1_isBucketSound 20 = .ok (.iconst 0, 1) := dk_3 (dk_at dksX1_isBucketSound_0 20 rfl rfl)
theorem dX1_isBucketSound_21 : decode cX1_isBucketSound 21 = .ok (.istore 4, 2) := dk_54 4 (dk_at dksX1_isBucketSound_0 21 rfl rfl)
theorem dX1_isBucketSound_23 : decode cX1_isBucketSound 23 = .ok (.iload 4, 2) := dk_21 4 (dk_at dksX1_isBucketSound_1 0 rfl rfl)
theorem dX1_isBucketSound_25 : decode cX1_isBucketSound 25 = .ok (.aload_n 3, 1) := dk_45 (dk_at dksX1_isBucketSound_1 2 rfl rfl)
theorem dX1_isBucketSound_26 : decode cX1_isBucketSound 26 = .ok (.invokevirtual 7, 3) := dk_182 0 7 (dk_at dksX1_isBucketSound_1 3 rfl rfl)
theorem dX1_isBucketSound_29 : decode cX1_isBucketSound 29 = .ok (.if_icmp .ge 102, 3) := dk_162 0 102 (dk_at dksX1_isBucketSound_1 6 rfl rfl)
theorem dX1_isBucketSound_32 : decode cX1_isBucketSound 32 = .ok (.aload_n 0, 1) := dk_42 (dk_at dksX1_isBucketSound_1 9 rfl rfl)
theorem dX1_isBucketSound_33 : decode cX1_isBucketSound 33 = .ok (.getfield 39, 3) := dk_180 0 39 (dk_at dksX1_isBucketSound_1 10 rfl rfl)
theorem dX1_isBucketSound_36 : decode cX1_isBucketSound 36 = .ok (.getfield 117, 3) := dk_180 0 117 (dk_at dksX1_isBucketSound_1 13 rfl rfl)
theorem dX1_isBucketSound_39 : decode cX1_isBucketSound 39 = .ok (.aload_n 3, 1) := dk_45 (dk_at dksX1_isBucketSound_1 16 rfl rfl)
theorem dX1_isBucketSound_40 : decode cX1_isBucketSound 40 = .ok (.iload 4, 2) := dk_21 4 (dk_at dksX1_isBucketSound_1 17 rfl rfl)
theorem dX1_isBucketSound_42 : decode cX1_isBucketSound 42 = .ok (.invokevirtual 13, 3) := dk_182 0 13 (dk_at dksX1_isBucketSound_1 19 rfl rfl)
theorem dX1_isBucketSound_45 : decode cX1_isBucketSound 45 = .ok (.checkcast 17, 3) := dk_192 0 17 (dk_at dksX1_isBucketSound_2 0 rfl rfl)
theorem dX1_isBucketSound_48 : decode cX1_isBucketSound 48 = .ok (.getfield 19, 3) := dk_180 0 19 (dk_at dksX1_isBucketSound_2 3 rfl rfl)
theorem dX1_isBucketSound_51 : decode cX1_isBucketSound 51 = .ok (.invokevirtual 187, 3) := dk_182 0 187 (dk_at dksX1_isBucketSound_2 6 rfl rfl)
theorem dX1_isBucketSound_54 : decode cX1_isBucketSound 54 = .ok (.istore 5, 2) := dk_54 5 (dk_at dksX1_isBucketSound_2 9 rfl rfl)
theorem dX1_isBucketSound_56 : decode cX1_isBucketSound 56 = .ok (.aload_n 0, 1) := dk_42 (dk_at dksX1_isBucketSound_2 11 rfl rfl)
theorem dX1_isBucketSound_57 : decode cX1_isBucketSound 57 = .ok (.getfield 39, 3) := dk_180 0 39 (dk_at dksX1_isBucketSound_2 12 rfl rfl)
theorem dX1_isBucketSound_60 : decode cX1_isBucketSound 60 = .ok (.iload 5, 2) := dk_21 5 (dk_at dksX1_isBucketSound_2 15 rfl rfl)
theorem dX1_isBucketSound_62 : decode cX1_isBucketSound 62 = .ok (.invokevirtual 256, 3) := dk_182 1 0 (dk_at dksX1_isBucketSound_2 17 rfl rfl)
theorem dX1_isBucketSound_65 : decode cX1_isBucketSound 65 = .ok (.iload_n 1, 1) := dk_27 (dk_at dksX1_isBucketSound_2 20 rfl rfl)
theorem dX1_isBucketSound_66 : decode cX1_isBucketSound 66 = .ok (.if_icmp .ne 12, 3) := dk_160 0 12 (dk_at dksX1_isBucketSound_2 21 rfl rfl)
theorem dX1_isBucketSound_69 : decode cX1_isBucketSound 69 = .ok (.aload_n 2, 1) := dk_44 (dk_at dksX1_isBucketSound_3 0 rfl rfl)
theorem dX1_isBucketSound_70 : decode cX1_isBucketSound 70 = .ok (.iload 5, 2) := dk_21 5 (dk_at dksX1_isBucketSound_3 1 rfl rfl)
theorem dX1_isBucketSound_72 : decode cX1_isBucketSound 72 = .ok (.invokevirtual 191, 3) := dk_182 0 191 (dk_at dksX1_isBucketSound_3 3 rfl rfl)
theorem dX1_isBucketSound_75 : decode cX1_isBucketSound 75 = .ok (.ifCond .ne 5, 3) := dk_154 0 5 (dk_at dksX1_isBucketSound_3 6 rfl rfl)
theorem dX1_isBucketSound_78 : decode cX1_isBucketSound 78 = .ok (.iconst 0, 1) := dk_3 (dk_at dksX1_isBucketSound_3 9 rfl rfl)
theorem dX1_isBucketSound_79 : decode cX1_isBucketSound 79 = .ok (.ireturn, 1) := dk_172 (dk_at dksX1_isBucketSound_3 10 rfl rfl)
theorem dX1_isBucketSound_80 : decode cX1_isBucketSound 80 = .ok (.iconst 0, 1) := dk_3 (dk_at dksX1_isBucketSound_3 11 rfl rfl)
theorem dX1_isBucketSound_81 : decode cX1_isBucketSound 81 = .ok (.istore 6, 2) := dk_54 6 (dk_at dksX1_isBucketSound_3 12 rfl rfl)
theorem dX1_isBucketSound_83 : decode cX1_isBucketSound 83 = .ok (.iload 6, 2) := dk_21 6 (dk_at dksX1_isBucketSound_3 14 rfl rfl)
theorem dX1_isBucketSound_85 : decode cX1_isBucketSound 85 = .ok (.iload 4, 2) := dk_21 4 (dk_at dksX1_isBucketSound_3 16 rfl rfl)
theorem dX1_isBucketSound_87 : decode cX1_isBucketSound 87 = .ok (.if_icmp .ge 38, 3) := dk_162 0 38 (dk_at dksX1_isBucketSound_3 18 rfl rfl)
theorem dX1_isBucketSound_90 : decode cX1_isBucketSound 90 = .ok (.aload_n 3, 1) := dk_45 (dk_at dksX1_isBucketSound_3 21 rfl rfl)
theorem dX1_isBucketSound_91 : decode cX1_isBucketSound 91 = .ok (.iload 6, 2) := dk_21 6 (dk_at dksX1_isBucketSound_3 22 rfl rfl)
theorem dX1_isBucketSound_93 : decode cX1_isBucketSound 93 = .ok (.invokevirtual 13, 3) := dk_182 0 13 (dk_at dksX1_isBucketSound_4 0 rfl rfl)
theorem dX1_isBucketSound_96 : decode cX1_isBucketSound 96 = .ok (.checkcast 17, 3) := dk_192 0 17 (dk_at dksX1_isBucketSound_4 3 rfl rfl)
theorem dX1_isBucketSound_99 : decode cX1_isBucketSound 99 = .ok (.getfield 19, 3) := dk_180 0 19 (dk_at dksX1_isBucketSound_4 6 rfl rfl)
theorem dX1_isBucketSound_102 : decode cX1_isBucketSound 102 = .ok (.aload_n 3, 1) := dk_45 (dk_at dksX1_isBucketSound_4 9 rfl rfl)
theorem dX1_isBucketSound_103 : decode cX1_isBucketSound 103 = .ok (.iload 4, 2) := dk_21 4 (dk_at dksX1_isBucketSound_4 10 rfl rfl)
theorem dX1_isBucketSound_105 : decode cX1_isBucketSound 105 = .ok (.invokevirtual 13, 3) := dk_182 0 13 (dk_at dksX1_isBucketSound_4 12 rfl rfl)
theorem dX1_isBucketSound_108 : decode cX1_isBucketSound 108 = .ok (.checkcast 17, 3) := dk_192 0 17 (dk_at dksX1_isBucketSound_4 15 rfl rfl)
theorem dX1_isBucketSound_111 : decode cX1_isBucketSound 111 = .ok (.getfield 19, 3) := dk_180 0 19 (dk_at dksX1_isBucketSound_4 18 rfl rfl)
theorem dX1_isBucketSound_114 : decode cX1_isBucketSound 114 = .ok (.if_icmp .ne 5, 3) := dk_160 0 5 (dk_at dksX1_isBucketSound_4 21 rfl rfl)
theorem dX1_isBucketSound_117 : decode cX1_isBucketSound 117 = .ok (.iconst 0, 1) := dk_3 (dk_at dksX1_isBucketSound_5 0 rfl rfl)
theorem dX1_isBucketSound_118 : decode cX1_isBucketSound 118 = .ok (.ireturn, 1) := dk_172 (dk_at dksX1_isBucketSound_5 1 rfl rfl)
theorem dX1_isBucketSound_119 : decode cX1_isBucketSound 119 = .ok (.iinc 6 1, 3) := dk_132 6 1 (dk_at dksX1_isBucketSound_5 2 rfl rfl)
theorem dX1_isBucketSound_122 : decode cX1_isBucketSound 122 = .ok (.goto (-39), 3) := dk_167 255 217 (dk_at dksX1_isBucketSound_5 5 rfl rfl)
theorem dX1_isBucketSound_125 : decode cX1_isBucketSound 125 = .ok (.iinc 4 1, 3) := dk_132 4 1 (dk_at dksX1_isBucketSound_5 8 rfl rfl)
theorem dX1_isBucketSound_128 : decode cX1_isBucketSound 128 = .ok (.goto (-105), 3) := dk_167 255 151 (dk_at dksX1_isBucketSound_5 11 rfl rfl)
theorem dX1_isBucketSound_131 : decode cX1_isBucketSound 131 = .ok (.aload_n 0, 1) := dk_42 (dk_at dksX1_isBucketSound_5 14 rfl rfl)
theorem dX1_isBucketSound_132 : decode cX1_isBucketSound 132 = .ok (.aload_n 2, 1) := dk_44 (dk_at dksX1_isBucketSound_5 15 rfl rfl)
theorem dX1_isBucketSound_133 : decode cX1_isBucketSound 133 = .ok (.invokevirtual 369, 3) := dk_182 1 113 (dk_at dksX1_isBucketSound_5 16 rfl rfl)
theorem dX1_isBucketSound_136 : decode cX1_isBucketSound 136 = .ok (.ireturn, 1) := dk_172 (dk_at dksX1_isBucketSound_5 19 rfl rfl)
abbrev cX1_isChainSound : ByteArray := prog_1_method_58_code
def yX1_isChainSound : MethodName := ⟨RX1, "isChainSound", "(LSplitpointer$Bucket;)Z"⟩
def dkwX1_isChainSound_3 : List UInt8 := [180, 1, 17, 161, 0, 11, 28, 158, 0, 9, 29, 154, 0, 5, 3, 172, 132, 2, 1, 167, 255, 167, 4, 172]
abbrev dktX1_isChainSound_3 : List UInt8 := dkwX1_isChainSound_3 ++ []
def dkwX1_isChainSound_2 : List UInt8 := [3, 54, 4, 29, 42, 180, 0, 39, 180, 1, 17, 163, 0, 27, 21, 4, 154, 0, 14, 29, 42, 180, 0, 39]
abbrev dktX1_isChainSound_2 : List UInt8 := dkwX1_isChainSound_2 ++ dktX1_isChainSound_3
def dkwX1_isChainSound_1 : List UInt8 := [180, 0, 1, 182, 0, 7, 62, 28, 4, 96, 43, 180, 0, 195, 182, 0, 7, 160, 0, 7, 4, 167, 0, 4]
abbrev dktX1_isChainSound_1 : List UInt8 := dkwX1_isChainSound_1 ++ dktX1_isChainSound_2
def dkwX1_isChainSound_0 : List UInt8 := [3, 61, 28, 43, 180, 0, 195, 182, 0, 7, 162, 0, 84, 43, 180, 0, 195, 28, 182, 0, 13, 192, 0, 2]
abbrev dktX1_isChainSound_0 : List UInt8 := dkwX1_isChainSound_0 ++ dktX1_isChainSound_1
theorem dksX1_isChainSound_0 : cX1_isChainSound.data.toList.drop 0 = dktX1_isChainSound_0 := by decide +kernel
theorem dksX1_isChainSound_1 : cX1_isChainSound.data.toList.drop 24 = dktX1_isChainSound_1 := dk_seg dksX1_isChainSound_0 24 rfl rfl
theorem dksX1_isChainSound_2 : cX1_isChainSound.data.toList.drop 48 = dktX1_isChainSound_2 := dk_seg dksX1_isChainSound_1 24 rfl rfl
theorem dksX1_isChainSound_3 : cX1_isChainSound.data.toList.drop 72 = dktX1_isChainSound_3 := dk_seg dksX1_isChainSound_2 24 rfl rfl
theorem dX1_isChainSound_0 : decode cX1_isChainSound 0 = .ok (.iconst 0, 1) := dk_3 (dk_at dksX1_isChainSound_0 0 rfl rfl)
theorem dX1_isChainSound_1 : decode cX1_isChainSound 1 = .ok (.istore_n 2, 1) := dk_61 (dk_at dksX1_isChainSound_0 1 rfl rfl)
theorem dX1_isChainSound_2 : decode cX1_isChainSound 2 = .ok (.iload_n 2, 1) := dk_28 (dk_at dksX1_isChainSound_0 2 rfl rfl)
theorem dX1_isChainSound_3 : decode cX1_isChainSound 3 = .ok (.aload_n 1, 1) := dk_43 (dk_at dksX1_isChainSound_0 3 rfl rfl)
theorem dX1_isChainSound_4 : decode cX1_isChainSound 4 = .ok (.getfield 195, 3) := dk_180 0 195 (dk_at dksX1_isChainSound_0 4 rfl rfl)
theorem dX1_isChainSound_7 : decode cX1_isChainSound 7 = .ok (.invokevirtual 7, 3) := dk_182 0 7 (dk_at dksX1_isChainSound_0 7 rfl rfl)
theorem dX1_isChainSound_10 : decode cX1_isChainSound 10 = .ok (.if_icmp .ge 84, 3) := dk_162 0 84 (dk_at dksX1_isChainSound_0 10 rfl rfl)
theorem dX1_isChainSound_13 : decode cX1_isChainSound 13 = .ok (.aload_n 1, 1) := dk_43 (dk_at dksX1_isChainSound_0 13 rfl rfl)
theorem dX1_isChainSound_14 : decode cX1_isChainSound 14 = .ok (.getfield 195, 3) := dk_180 0 195 (dk_at dksX1_isChainSound_0 14 rfl rfl)
theorem dX1_isChainSound_17 : decode cX1_isChainSound 17 = .ok (.iload_n 2, 1) := dk_28 (dk_at dksX1_isChainSound_0 17 rfl rfl)
theorem dX1_isChainSound_18 : decode cX1_isChainSound 18 = .ok (.invokevirtual 13, 3) := dk_182 0 13 (dk_at dksX1_isChainSound_0 18 rfl rfl)
theorem dX1_isChainSound_21 : decode cX1_isChainSound 21 = .ok (.checkcast 2, 3) := dk_192 0 2 (dk_at dksX1_isChainSound_0 21 rfl rfl)
theorem dX1_isChainSound_24 : decode cX1_isChainSound 24 = .ok (.getfield 1, 3) := dk_180 0 1 (dk_at dksX1_isChainSound_1 0 rfl rfl)
theorem dX1_isChainSound_27 : decode cX1_isChainSound 27 = .ok (.invokevirtual 7, 3) := dk_182 0 7 (dk_at dksX1_isChainSound_1 3 rfl rfl)
theorem dX1_isChainSound_30 : decode cX1_isChainSound 30 = .ok (.istore_n 3, 1) := dk_62 (dk_at dksX1_isChainSound_1 6 rfl rfl)
theorem dX1_isChainSound_31 : decode cX1_isChainSound 31 = .ok (.iload_n 2, 1) := dk_28 (dk_at dksX1_isChainSound_1 7 rfl rfl)
theorem dX1_isChainSound_32 : decode cX1_isChainSound 32 = .ok (.iconst 1, 1) := dk_4 (dk_at dksX1_isChainSound_1 8 rfl rfl)
theorem dX1_isChainSound_33 : decode cX1_isChainSound 33 = .ok (.iadd, 1) := dk_96 (dk_at dksX1_isChainSound_1 9 rfl rfl)
theorem dX1_isChainSound_34 : decode cX1_isChainSound 34 = .ok (.aload_n 1, 1) := dk_43 (dk_at dksX1_isChainSound_1 10 rfl rfl)
theorem dX1_isChainSound_35 : decode cX1_isChainSound 35 = .ok (.getfield 195, 3) := dk_180 0 195 (dk_at dksX1_isChainSound_1 11 rfl rfl)
theorem dX1_isChainSound_38 : decode cX1_isChainSound 38 = .ok (.invokevirtual 7, 3) := dk_182 0 7 (dk_at dksX1_isChainSound_1 14 rfl rfl)
theorem dX1_isChainSound_41 : decode cX1_isChainSound 41 = .ok (.if_icmp .ne 7, 3) := dk_160 0 7 (dk_at dksX1_isChainSound_1 17 rfl rfl)
theorem dX1_isChainSound_44 : decode cX1_isChainSound 44 = .ok (.iconst 1, 1) := dk_4 (dk_at dksX1_isChainSound_1 20 rfl rfl)
theorem dX1_isChainSound_45 : decode cX1_isChainSound 45 = .ok (.goto 4, 3) := dk_167 0 4 (dk_at dksX1_isChainSound_1 21 rfl rfl)
theorem dX1_isChainSound_48 : decode cX1_isChainSound 48 = .ok (.iconst 0, 1) := dk_3 (dk_at dksX1_isChainSound_2 0 rfl rfl)
theorem dX1_isChainSound_49 : decode cX1_isChainSound 49 = .ok (.istore 4, 2) := dk_54 4 (dk_at dksX1_isChainSound_2 1 rfl rfl)
theorem dX1_isChainSound_51 : decode cX1_isChainSound 51 = .ok (.iload_n 3, 1) := dk_29 (dk_at dksX1_isChainSound_2 3 rfl rfl)
theorem dX1_isChainSound_52 : decode cX1_isChainSound 52 = .ok (.aload_n 0, 1) := dk_42 (dk_at dksX1_isChainSound_2 4 rfl rfl)
theorem dX1_isChainSound_53 : decode cX1_isChainSound 53 = .ok (.getfield 39, 3) := dk_180 0 39 (dk_at dksX1_isChainSound_2 5 rfl rfl)
theorem dX1_isChainSound_56 : decode cX1_isChainSound 56 = .ok (.getfield 273, 3) := dk_180 1 17 (dk_at dksX1_isChainSound_2 8 rfl rfl)
theorem dX1_isChainSound_59 : decode cX1_isChainSound 59 = .ok (.if_icmp .gt 27, 3) := dk_163 0 27 (dk_at dksX1_isChainSound_2 11 rfl rfl)
theorem dX1_isChainSound_62 : decode cX1_isChainSound 62 = .ok (.iload 4, 2) := dk_21 4 (dk_at dksX1_isChainSound_2 14 rfl rfl)
theorem dX1_isChainSound_64 : decode cX1_isChainSound 64 = .ok (.ifCond .ne 14, 3) := dk_154 0 14 (dk_at dksX1_isChainSound_2 16 rfl rfl)
theorem dX1_isChainSound_67 : decode cX1_isChainSound 67 = .ok (.iload_n 3, 1) := dk_29 (dk_at dksX1_isChainSound_2 19 rfl rfl)
theorem dX1_isChainSound_68 : decode cX1_isChainSound 68 = .ok (.aload_n 0, 1) := dk_42 (dk_at dksX1_isChainSound_2 20 rfl rfl)
theorem dX1_isChainSound_69 : decode cX1_isChainSound 69 = .ok (.getfield 39, 3) := dk_180 0 39 (dk_at dksX1_isChainSound_2 21 rfl rfl)
theorem dX1_isChainSound_72 : decode cX1_isChainSound 72 = .ok (.getfield 273, 3) := dk_180 1 17 (dk_at dksX1_isChainSound_3 0 rfl rfl)
theorem dX1_isChainSound_75 : decode cX1_isChainSound 75 = .ok (.if_icmp .lt 11, 3) := dk_161 0 11 (dk_at dksX1_isChainSound_3 3 rfl rfl)
theorem dX1_isChainSound_78 : decode cX1_isChainSound 78 = .ok (.iload_n 2, 1) := dk_28 (dk_at dksX1_isChainSound_3 6 rfl rfl)
theorem dX1_isChainSound_79 : decode cX1_isChainSound 79 = .ok (.ifCond .le 9, 3) := dk_158 0 9 (dk_at dksX1_isChainSound_3 7 rfl rfl)
theorem dX1_isChainSound_82 : decode cX1_isChainSound 82 = .ok (.iload_n 3, 1) := dk_29 (dk_at dksX1_isChainSound_3 10 rfl rfl)
theorem dX1_isChainSound_83 : decode cX1_isChainSound 83 = .ok (.ifCond .ne 5, 3) := dk_154 0 5 (dk_at dksX1_isChainSound_3 11 rfl rfl)
theorem dX1_isChainSound_86 : decode cX1_isChainSound 86 = .ok (.iconst 0, 1) := dk_3 (dk_at dksX1_isChainSound_3 14 rfl rfl)
theorem dX1_isChainSound_87 : decode cX1_isChainSound 87 = .ok (.ireturn, 1) := dk_172 (dk_at dksX1_isChainSound_3 15 rfl rfl)
theorem dX1_isChainSound_88 : decode cX1_isChainSound 88 = .ok (.iinc 2 1, 3) := dk_132 2 1 (dk_at dksX1_isChainSound_3 16 rfl rfl)
theorem dX1_isChainSound_91 : decode cX1_isChainSound 91 = .ok (.goto (-89), 3) := dk_167 255 167 (dk_at dksX1_isChainSound_3 19 rfl rfl)
theorem dX1_isChainSound_94 : decode cX1_isChainSound 94 = .ok (.iconst 1, 1) := dk_4 (dk_at dksX1_isChainSound_3 22 rfl rfl)
theorem dX1_isChainSound_95 : decode cX1_isChainSound 95 = .ok (.ireturn, 1) := dk_172 (dk_at dksX1_isChainSound_3 23 rfl rfl)
abbrev cX1_bit : ByteArray := prog_1_method_2_code
def yX1_bit : MethodName := ⟨RX1, "bit", "(Z)I"⟩
def dkwX1_bit_0 : List UInt8 := [26, 153, 0, 7, 4, 167, 0, 4, 3, 172]
abbrev dktX1_bit_0 : List UInt8 := dkwX1_bit_0 ++ []
theorem dksX1_bit_0 : cX1_bit.data.toList.drop 0 = dktX1_bit_0 := by decide +kernel
theorem dX1_bit_0 : decode cX1_bit 0 = .ok (.iload_n 0, 1) := dk_26 (dk_at dksX1_bit_0 0 rfl rfl)
theorem dX1_bit_1 : decode cX1_bit 1 = .ok (.ifCond .eq 7, 3) := dk_153 0 7 (dk_at dksX1_bit_0 1 rfl rfl)
theorem dX1_bit_4 : decode cX1_bit 4 = .ok (.iconst 1, 1) := dk_4 (dk_at dksX1_bit_0 4 rfl rfl)
theorem dX1_bit_5 : decode cX1_bit 5 = .ok (.goto 4, 3) := dk_167 0 4 (dk_at dksX1_bit_0 5 rfl rfl)
theorem dX1_bit_8 : decode cX1_bit 8 = .ok (.iconst 0, 1) := dk_3 (dk_at dksX1_bit_0 8 rfl rfl)
theorem dX1_bit_9 : decode cX1_bit 9 = .ok (.ireturn, 1) := dk_172 (dk_at dksX1_bit_0 9 rfl rfl)
abbrev cX1_digest : ByteArray := prog_1_method_64_code
def yX1_digest : MethodName := ⟨RX1, "digest", "()J"⟩
def dkwX1_digest_6 : List UInt8 := [184, 1, 129, 42, 182, 1, 123, 184, 1, 1, 133, 184, 1, 129, 173]
abbrev dktX1_digest_6 : List UInt8 := dkwX1_digest_6 ++ []
def dkwX1_digest_5 : List UInt8 := [184, 1, 129, 42, 180, 0, 39, 3, 3, 182, 1, 103, 133, 184, 1, 129, 64, 31, 42, 2, 182, 1, 110, 133]
abbrev dktX1_digest_5 : List UInt8 := dkwX1_digest_5 ++ dktX1_digest_6
def dkwX1_digest_4 : List UInt8 := [132, 4, 1, 167, 255, 229, 132, 3, 1, 167, 255, 215, 31, 42, 180, 0, 39, 4, 3, 182, 1, 103, 133]
abbrev dktX1_digest_4 : List UInt8 := dkwX1_digest_4 ++ dktX1_digest_5
def dkwX1_digest_3 : List UInt8 := [21, 4, 5, 163, 0, 27, 31, 42, 42, 180, 0, 53, 29, 50, 21, 4, 182, 1, 92, 133, 184, 1, 129, 64]
abbrev dktX1_digest_3 : List UInt8 := dkwX1_digest_3 ++ dktX1_digest_4
def dkwX1_digest_2 : List UInt8 := [182, 1, 85, 133, 184, 1, 129, 64, 132, 3, 1, 167, 255, 237, 3, 62, 29, 6, 162, 0, 42, 3, 54, 4]
abbrev dktX1_digest_2 : List UInt8 := dkwX1_digest_2 ++ dktX1_digest_3
def dkwX1_digest_1 : List UInt8 := [132, 3, 1, 167, 255, 236, 42, 31, 182, 1, 139, 64, 3, 62, 29, 6, 162, 0, 20, 31, 42, 29]
abbrev dktX1_digest_1 : List UInt8 := dkwX1_digest_1 ++ dktX1_digest_2
def dkwX1_digest_0 : List UInt8 := [20, 1, 137, 64, 3, 62, 29, 16, 21, 163, 0, 20, 31, 42, 29, 182, 1, 38, 133, 184, 1, 129, 64]
abbrev dktX1_digest_0 : List UInt8 := dkwX1_digest_0 ++ dktX1_digest_1
theorem dksX1_digest_0 : cX1_digest.data.toList.drop 0 = dktX1_digest_0 := by decide +kernel
theorem dksX1_digest_1 : cX1_digest.data.toList.drop 23 = dktX1_digest_1 := dk_seg dksX1_digest_0 23 rfl rfl
theorem dksX1_digest_2 : cX1_digest.data.toList.drop 45 = dktX1_digest_2 := dk_seg dksX1_digest_1 22 rfl rfl
theorem dksX1_digest_3 : cX1_digest.data.toList.drop 69 = dktX1_digest_3 := dk_seg dksX1_digest_2 24 rfl rfl
theorem dksX1_digest_4 : cX1_digest.data.toList.drop 93 = dktX1_digest_4 := dk_seg dksX1_digest_3 24 rfl rfl
theorem dksX1_digest_5 : cX1_digest.data.toList.drop 116 = dktX1_digest_5 := dk_seg dksX1_digest_4 23 rfl rfl
theorem dksX1_digest_6 : cX1_digest.data.toList.drop 140 = dktX1_digest_6 := dk_seg dksX1_digest_5 24 rfl rfl
theorem dX1_digest_0 : decode cX1_digest 0 = .ok (.ldc2_w 393, 3) := dk_20 1 137 (dk_at dksX1_digest_0 0 rfl rfl)
theorem dX1_digest_3 : decode cX1_digest 3 = .ok (.lstore_n 1, 1) := dk_64 (dk_at dksX1_digest_0 3 rfl rfl)
theorem dX1_digest_4 : decode cX1_digest 4 = .ok (.iconst 0, 1) := dk_3 (dk_at dksX1_digest_0 4 rfl rfl)
theorem dX1_digest_5 : decode cX1_digest 5 = .ok (.istore_n 3, 1) := dk_62 (dk_at dksX1_digest_0 5 rfl rfl)
theorem dX1_digest_6 : decode cX1_digest 6 = .ok (.iload_n 3, 1) := dk_29 (dk_at dksX1_digest_0 6 rfl rfl)
theorem dX1_digest_7 : decode cX1_digest 7 = .ok (.bipush 21, 2) := dk_16 21 (dk_at dksX1_digest_0 7 rfl rfl)
theorem dX1_digest_9 : decode cX1_digest 9 = .ok (.if_icmp .gt 20, 3) := dk_163 0 20 (dk_at dksX1_digest_0 9 rfl rfl)
theorem dX1_digest_12 : decode cX1_digest 12 = .ok (.lload_n 1, 1) := dk_31 (dk_at dksX1_digest_0 12 rfl rfl)
theorem dX1_digest_13 : decode cX1_digest 13 = .ok (.aload_n 0, 1) := dk_42 (dk_at dksX1_digest_0 13 rfl rfl)
theorem dX1_digest_14 : decode cX1_digest 14 = .ok (.iload_n 3, 1) := dk_29 (dk_at dksX1_digest_0 14 rfl rfl)
theorem dX1_digest_15 : decode cX1_digest 15 = .ok (.invokevirtual 294, 3) := dk_182 1 38 (dk_at dksX1_digest_0 15 rfl rfl)
theorem dX1_digest_18 : decode cX1_digest 18 = .ok (.i2l, 1) := dk_133 (dk_at dksX1_digest_0 18 rfl rfl)
theorem dX1_digest_19 : decode cX1_digest 19 = .ok (.invokestatic 385, 3) := dk_184 1 129 (dk_at dksX1_digest_0 19 rfl rfl)
theorem dX1_digest_22 : decode cX1_digest 22 = .ok (.lstore_n 1, 1) := dk_64 (dk_at dksX1_digest_0 22 rfl rfl)
theorem dX1_digest_23 : decode cX1_digest 23 = .ok (.iinc 3 1, 3) := dk_132 3 1 (dk_at dksX1_digest_1 0 rfl rfl)
theorem dX1_digest_26 : decode cX1_digest 26 = .ok (.goto (-20), 3) := dk_167 255 236 (dk_at dksX1_digest_1 3 rfl rfl)
theorem dX1_digest_29 : decode cX1_digest 29 = .ok (.aload_n 0, 1) := dk_42 (dk_at dksX1_digest_1 6 rfl rfl)
theorem dX1_digest_30 : decode cX1_digest 30 = .ok (.lload_n 1, 1) := dk_31 (dk_at dksX1_digest_1 7 rfl rfl)
theorem dX1_digest_31 : decode cX1_digest 31 = .ok (.invokevirtual 395, 3) := dk_182 1 139 (dk_at dksX1_digest_1 8 rfl rfl)
theorem dX1_digest_34 : decode cX1_digest 34 = .ok (.lstore_n 1, 1) := dk_64 (dk_at dksX1_digest_1 11 rfl rfl)
theorem dX1_digest_35 : decode cX1_digest 35 = .ok (.iconst 0, 1) := dk_3 (dk_at dksX1_digest_1 12 rfl rfl)
theorem dX1_digest_36 : decode cX1_digest 36 = .ok (.istore_n 3, 1) := dk_62 (dk_at dksX1_digest_1 13 rfl rfl)
theorem dX1_digest_37 : decode cX1_digest 37 = .ok (.iload_n 3, 1) := dk_29 (dk_at dksX1_digest_1 14 rfl rfl)
theorem dX1_digest_38 : decode cX1_digest 38 = .ok (.iconst 3, 1) := dk_6 (dk_at dksX1_digest_1 15 rfl rfl)
theorem dX1_digest_39 : decode cX1_digest 39 = .ok (.if_icmp .ge 20, 3) := dk_162 0 20 (dk_at dksX1_digest_1 16 rfl rfl)
theorem dX1_digest_42 : decode cX1_digest 42 = .ok (.lload_n 1, 1) := dk_31 (dk_at dksX1_digest_1 19 rfl rfl)
theorem dX1_digest_43 : decode cX1_digest 43 = .ok (.aload_n 0, 1) := dk_42 (dk_at dksX1_digest_1 20 rfl rfl)
theorem dX1_digest_44 : decode cX1_digest 44 = .ok (.iload_n 3, 1) := dk_29 (dk_at dksX1_digest_1 21 rfl rfl)
theorem dX1_digest_45 : decode cX1_digest 45 = .ok (.invokevirtual 341, 3) := dk_182 1 85 (dk_at dksX1_digest_2 0 rfl rfl)
theorem dX1_digest_48 : decode cX1_digest 48 = .ok (.i2l, 1) := dk_133 (dk_at dksX1_digest_2 3 rfl rfl)
theorem dX1_digest_49 : decode cX1_digest 49 = .ok (.invokestatic 385, 3) := dk_184 1 129 (dk_at dksX1_digest_2 4 rfl rfl)
theorem dX1_digest_52 : decode cX1_digest 52 = .ok (.lstore_n 1, 1) := dk_64 (dk_at dksX1_digest_2 7 rfl rfl)
theorem dX1_digest_53 : decode cX1_digest 53 = .ok (.iinc 3 1, 3) := dk_132 3 1 (dk_at dksX1_digest_2 8 rfl rfl)
theorem dX1_digest_56 : decode cX1_digest 56 = .ok (.goto (-19), 3) := dk_167 255 237 (dk_at dksX1_digest_2 11 rfl rfl)
theorem dX1_digest_59 : decode cX1_digest 59 = .ok (.iconst 0, 1) := dk_3 (dk_at dksX1_digest_2 14 rfl rfl)
theorem dX1_digest_60 : decode cX1_digest 60 = .ok (.istore_n 3, 1) := dk_62 (dk_at dksX1_digest_2 15 rfl rfl)
theorem dX1_digest_61 : decode cX1_digest 61 = .ok (.iload_n 3, 1) := dk_29 (dk_at dksX1_digest_2 16 rfl rfl)
theorem dX1_digest_62 : decode cX1_digest 62 = .ok (.iconst 3, 1) := dk_6 (dk_at dksX1_digest_2 17 rfl rfl)
theorem dX1_digest_63 : decode cX1_digest 63 = .ok (.if_icmp .ge 42, 3) := dk_162 0 42 (dk_at dksX1_digest_2 18 rfl rfl)
theorem dX1_digest_66 : decode cX1_digest 66 = .ok (.iconst 0, 1) := dk_3 (dk_at dksX1_digest_2 21 rfl rfl)
theorem dX1_digest_67 : decode cX1_digest 67 = .ok (.istore 4, 2) := dk_54 4 (dk_at dksX1_digest_2 22 rfl rfl)
theorem dX1_digest_69 : decode cX1_digest 69 = .ok (.iload 4, 2) := dk_21 4 (dk_at dksX1_digest_3 0 rfl rfl)
theorem dX1_digest_71 : decode cX1_digest 71 = .ok (.iconst 2, 1) := dk_5 (dk_at dksX1_digest_3 2 rfl rfl)
theorem dX1_digest_72 : decode cX1_digest 72 = .ok (.if_icmp .gt 27, 3) := dk_163 0 27 (dk_at dksX1_digest_3 3 rfl rfl)
theorem dX1_digest_75 : decode cX1_digest 75 = .ok (.lload_n 1, 1) := dk_31 (dk_at dksX1_digest_3 6 rfl rfl)
theorem dX1_digest_76 : decode cX1_digest 76 = .ok (.aload_n 0, 1) := dk_42 (dk_at dksX1_digest_3 7 rfl rfl)
theorem dX1_digest_77 : decode cX1_digest 77 = .ok (.aload_n 0, 1) := dk_42 (dk_at dksX1_digest_3 8 rfl rfl)
theorem dX1_digest_78 : decode cX1_digest 78 = .ok (.getfield 53, 3) := dk_180 0 53 (dk_at dksX1_digest_3 9 rfl rfl)
theorem dX1_digest_81 : decode cX1_digest 81 = .ok (.iload_n 3, 1) := dk_29 (dk_at dksX1_digest_3 12 rfl rfl)
theorem dX1_digest_82 : decode cX1_digest 82 = .ok (.aaload, 1) := dk_50 (dk_at dksX1_digest_3 13 rfl rfl)
theorem dX1_digest_83 : decode cX1_digest 83 = .ok (.iload 4, 2) := dk_21 4 (dk_at dksX1_digest_3 14 rfl rfl)
theorem dX1_digest_85 : decode cX1_digest 85 = .ok (.invokevirtual 348, 3) := dk_182 1 92 (dk_at dksX1_digest_3 16 rfl rfl)
theorem dX1_digest_88 : decode cX1_digest 88 = .ok (.i2l, 1) := dk_133 (dk_at dksX1_digest_3 19 rfl rfl)
theorem dX1_digest_89 : decode cX1_digest 89 = .ok (.invokestatic 385, 3) := dk_184 1 129 (dk_at dksX1_digest_3 20 rfl rfl)
theorem dX1_digest_92 : decode cX1_digest 92 = .ok (.lstore_n 1, 1) := dk_64 (dk_at dksX1_digest_3 23 rfl rfl)
theorem dX1_digest_93 : decode cX1_digest 93 = .ok (.iinc 4 1, 3) := dk_132 4 1 (dk_at dksX1_digest_4 0 rfl rfl)
theorem dX1_digest_96 : decode cX1_digest 96 = .ok (.goto (-27), 3) := dk_167 255 229 (dk_at dksX1_digest_4 3 rfl rfl)
theorem dX1_digest_99 : decode cX1_digest 99 = .ok (.iinc 3 1, 3) := dk_132 3 1 (dk_at dksX1_digest_4 6 rfl rfl)
theorem dX1_digest_102 : decode cX1_digest 102 = .ok (.goto (-41), 3) := dk_167 255 215 (dk_at dksX1_digest_4 9 rfl rfl)
theorem dX1_digest_105 : decode cX1_digest 105 = .ok (.lload_n 1, 1) := dk_31 (dk_at dksX1_digest_4 12 rfl rfl)
theorem dX1_digest_106 : decode cX1_digest 106 = .ok (.aload_n 0, 1) := dk_42 (dk_at dksX1_digest_4 13 rfl rfl)
theorem dX1_digest_107 : decode cX1_digest 107 = .ok (.getfield 39, 3) := dk_180 0 39 (dk_at dksX1_digest_4 14 rfl rfl)
theorem dX1_digest_110 : decode cX1_digest 110 = .ok (.iconst 1, 1) := dk_4 (dk_at dksX1_digest_4 17 rfl rfl)
theorem dX1_digest_111 : decode cX1_digest 111 = .ok (.iconst 0, 1) := dk_3 (dk_at dksX1_digest_4 18 rfl rfl)
theorem dX1_digest_112 : decode cX1_digest 112 = .ok (.invokevirtual 359, 3) := dk_182 1 103 (dk_at dksX1_digest_4 19 rfl rfl)
theorem dX1_digest_115 : decode cX1_digest 115 = .ok (.i2l, 1) := dk_133 (dk_at dksX1_digest_4 22 rfl rfl)
theorem dX1_digest_116 : decode cX1_digest 116 = .ok (.invokestatic 385, 3) := dk_184 1 129 (dk_at dksX1_digest_5 0 rfl rfl)
theorem dX1_digest_119 : decode cX1_digest 119 = .ok (.aload_n 0, 1) := dk_42 (dk_at dksX1_digest_5 3 rfl rfl)
theorem dX1_digest_120 : decode cX1_digest 120 = .ok (.getfield 39, 3) := dk_180 0 39 (dk_at dksX1_digest_5 4 rfl rfl)
theorem dX1_digest_123 : decode cX1_digest 123 = .ok (.iconst 0, 1) := dk_3 (dk_at dksX1_digest_5 7 rfl rfl)
theorem dX1_digest_124 : decode cX1_digest 124 = .ok (.iconst 0, 1) := dk_3 (dk_at dksX1_digest_5 8 rfl rfl)
theorem dX1_digest_125 : decode cX1_digest 125 = .ok (.invokevirtual 359, 3) := dk_182 1 103 (dk_at dksX1_digest_5 9 rfl rfl)
theorem dX1_digest_128 : decode cX1_digest 128 = .ok (.i2l, 1) := dk_133 (dk_at dksX1_digest_5 12 rfl rfl)
theorem dX1_digest_129 : decode cX1_digest 129 = .ok (.invokestatic 385, 3) := dk_184 1 129 (dk_at dksX1_digest_5 13 rfl rfl)
theorem dX1_digest_132 : decode cX1_digest 132 = .ok (.lstore_n 1, 1) := dk_64 (dk_at dksX1_digest_5 16 rfl rfl)
theorem dX1_digest_133 : decode cX1_digest 133 = .ok (.lload_n 1, 1) := dk_31 (dk_at dksX1_digest_5 17 rfl rfl)
theorem dX1_digest_134 : decode cX1_digest 134 = .ok (.aload_n 0, 1) := dk_42 (dk_at dksX1_digest_5 18 rfl rfl)
theorem dX1_digest_135 : decode cX1_digest 135 = .ok (.iconst (-1), 1) := dk_2 (dk_at dksX1_digest_5 19 rfl rfl)
theorem dX1_digest_136 : decode cX1_digest 136 = .ok (.invokevirtual 366, 3) := dk_182 1 110 (dk_at dksX1_digest_5 20 rfl rfl)
theorem dX1_digest_139 : decode cX1_digest 139 = .ok (.i2l, 1) := dk_133 (dk_at dksX1_digest_5 23 rfl rfl)
theorem dX1_digest_140 : decode cX1_digest 140 = .ok (.invokestatic 385, 3) := dk_184 1 129 (dk_at dksX1_digest_6 0 rfl rfl)
theorem dX1_digest_143 : decode cX1_digest 143 = .ok (.aload_n 0, 1) := dk_42 (dk_at dksX1_digest_6 3 rfl rfl)
theorem dX1_digest_144 : decode cX1_digest 144 = .ok (.invokevirtual 379, 3) := dk_182 1 123 (dk_at dksX1_digest_6 4 rfl rfl)
theorem dX1_digest_147 : decode cX1_digest 147 = .ok (.invokestatic 257, 3) := dk_184 1 1 (dk_at dksX1_digest_6 7 rfl rfl)
theorem dX1_digest_150 : decode cX1_digest 150 = .ok (.i2l, 1) := dk_133 (dk_at dksX1_digest_6 10 rfl rfl)
theorem dX1_digest_151 : decode cX1_digest 151 = .ok (.invokestatic 385, 3) := dk_184 1 129 (dk_at dksX1_digest_6 11 rfl rfl)
theorem dX1_digest_154 : decode cX1_digest 154 = .ok (.lreturn, 1) := dk_173 (dk_at dksX1_digest_6 14 rfl rfl)
abbrev cX1_ofFileNow : ByteArray := prog_1_method_39_code
def yX1_ofFileNow : MethodName := ⟨RX1, "ofFileNow", "(I)I"⟩
def dkwX1_ofFileNow_7 : List UInt8 := [180, 1, 32, 172, 42, 27, 182, 1, 35, 172]
abbrev dktX1_ofFileNow_7 : List UInt8 := dkwX1_ofFileNow_7 ++ []
def dkwX1_ofFileNow_6 : List UInt8 := [182, 0, 180, 172, 42, 180, 0, 39, 182, 1, 26, 172, 42, 180, 0, 39, 180, 1, 29, 172, 42, 180, 0, 39]
abbrev dktX1_ofFileNow_6 : List UInt8 := dkwX1_ofFileNow_6 ++ dktX1_ofFileNow_7
def dkwX1_ofFileNow_5 : List UInt8 := [180, 0, 117, 180, 1, 20, 172, 42, 180, 0, 39, 180, 0, 117, 180, 1, 23, 172, 42, 180, 0, 39]
abbrev dktX1_ofFileNow_5 : List UInt8 := dkwX1_ofFileNow_5 ++ dktX1_ofFileNow_6
def dkwX1_ofFileNow_4 : List UInt8 := [180, 1, 11, 172, 42, 180, 0, 39, 180, 1, 14, 172, 42, 180, 0, 39, 180, 1, 17, 172, 42, 180, 0, 39]
abbrev dktX1_ofFileNow_4 : List UInt8 := dkwX1_ofFileNow_4 ++ dktX1_ofFileNow_5
def dkwX1_ofFileNow_3 : List UInt8 := [180, 0, 221, 172, 42, 180, 0, 39, 180, 0, 224, 172, 42, 180, 0, 39, 182, 0, 154, 172, 42, 180, 0, 39]
abbrev dktX1_ofFileNow_3 : List UInt8 := dkwX1_ofFileNow_3 ++ dktX1_ofFileNow_4
def dkwX1_ofFileNow_2 : List UInt8 := [42, 180, 0, 39, 180, 0, 135, 172, 42, 180, 0, 39, 180, 0, 82, 182, 0, 7, 172, 42, 180, 0, 39]
abbrev dktX1_ofFileNow_2 : List UInt8 := dkwX1_ofFileNow_2 ++ dktX1_ofFileNow_3
def dkwX1_ofFileNow_1 : List UInt8 := [170, 0, 0, 0, 0, 0, 192, 0, 0, 0, 0, 0, 0, 0, 13, 0, 0, 0, 71, 0, 0, 0, 79, 0, 0, 0, 90, 0, 0, 0, 98, 0, 0, 0, 106, 0, 0, 0, 114, 0, 0, 0, 122, 0, 0, 0, 130, 0, 0, 0, 138, 0, 0, 0, 149, 0, 0, 0, 160, 0, 0, 0, 168, 0, 0, 0, 176, 0, 0, 0, 184]
abbrev dktX1_ofFileNow_1 : List UInt8 := dkwX1_ofFileNow_1 ++ dktX1_ofFileNow_2
def dkwX1_ofFileNow_0 : List UInt8 := [27]
abbrev dktX1_ofFileNow_0 : List UInt8 := dkwX1_ofFileNow_0 ++ dktX1_ofFileNow_1
theorem dksX1_ofFileNow_0 : cX1_ofFileNow.data.toList.drop 0 = dktX1_ofFileNow_0 := by decide +kernel
theorem dksX1_ofFileNow_1 : cX1_ofFileNow.data.toList.drop 1 = dktX1_ofFileNow_1 := dk_seg dksX1_ofFileNow_0 1 rfl rfl
theorem dksX1_ofFileNow_2 : cX1_ofFileNow.data.toList.drop 72 = dktX1_ofFileNow_2 := dk_seg dksX1_ofFileNow_1 71 rfl rfl
theorem dksX1_ofFileNow_3 : cX1_ofFileNow.data.toList.drop 95 = dktX1_ofFileNow_3 := dk_seg dksX1_ofFileNow_2 23 rfl rfl
theorem dksX1_ofFileNow_4 : cX1_ofFileNow.data.toList.drop 119 = dktX1_ofFileNow_4 := dk_seg dksX1_ofFileNow_3 24 rfl rfl
theorem dksX1_ofFileNow_5 : cX1_ofFileNow.data.toList.drop 143 = dktX1_ofFileNow_5 := dk_seg dksX1_ofFileNow_4 24 rfl rfl
theorem dksX1_ofFileNow_6 : cX1_ofFileNow.data.toList.drop 165 = dktX1_ofFileNow_6 := dk_seg dksX1_ofFileNow_5 22 rfl rfl
theorem dksX1_ofFileNow_7 : cX1_ofFileNow.data.toList.drop 189 = dktX1_ofFileNow_7 := dk_seg dksX1_ofFileNow_6 24 rfl rfl
theorem dX1_ofFileNow_0 : decode cX1_ofFileNow 0 = .ok (.iload_n 1, 1) := dk_27 (dk_at dksX1_ofFileNow_0 0 rfl rfl)
theorem dX1_ofFileNow_1 : decode cX1_ofFileNow 1 = .ok (.tableswitch 192 0 13 #[71, 79, 90, 98, 106, 114, 122, 130, 138, 149, 160, 168, 176, 184], 71) := by decide +kernel
theorem dX1_ofFileNow_72 : decode cX1_ofFileNow 72 = .ok (.aload_n 0, 1) := dk_42 (dk_at dksX1_ofFileNow_2 0 rfl rfl)
theorem dX1_ofFileNow_73 : decode cX1_ofFileNow 73 = .ok (.getfield 39, 3) := dk_180 0 39 (dk_at dksX1_ofFileNow_2 1 rfl rfl)
theorem dX1_ofFileNow_76 : decode cX1_ofFileNow 76 = .ok (.getfield 135, 3) := dk_180 0 135 (dk_at dksX1_ofFileNow_2 4 rfl rfl)
theorem dX1_ofFileNow_79 : decode cX1_ofFileNow 79 = .ok (.ireturn, 1) := dk_172 (dk_at dksX1_ofFileNow_2 7 rfl rfl)
theorem dX1_ofFileNow_80 : decode cX1_ofFileNow 80 = .ok (.aload_n 0, 1) := dk_42 (dk_at dksX1_ofFileNow_2 8 rfl rfl)
theorem dX1_ofFileNow_81 : decode cX1_ofFileNow 81 = .ok (.getfield 39, 3) := dk_180 0 39 (dk_at dksX1_ofFileNow_2 9 rfl rfl)
theorem dX1_ofFileNow_84 : decode cX1_ofFileNow 84 = .ok (.getfield 82, 3) := dk_180 0 82 (dk_at dksX1_ofFileNow_2 12 rfl rfl)
theorem dX1_ofFileNow_87 : decode cX1_ofFileNow 87 = .ok (.invokevirtual 7, 3) := dk_182 0 7 (dk_at dksX1_ofFileNow_2 15 rfl rfl)
theorem dX1_ofFileNow_90 : decode cX1_ofFileNow 90 = .ok (.ireturn, 1) := dk_172 (dk_at dksX1_ofFileNow_2 18 rfl rfl)
theorem dX1_ofFileNow_91 : decode cX1_ofFileNow 91 = .ok (.aload_n 0, 1) := dk_42 (dk_at dksX1_ofFileNow_2 19 rfl rfl)
theorem dX1_ofFileNow_92 : decode cX1_ofFileNow 92 = .ok (.getfield 39, 3) := dk_180 0 39 (dk_at dksX1_ofFileNow_2 20 rfl rfl)
theorem dX1_ofFileNow_95 : decode cX1_ofFileNow 95 = .ok (.getfield 221, 3) := dk_180 0 221 (dk_at dksX1_ofFileNow_3 0 rfl rfl)
theorem dX1_ofFileNow_98 : decode cX1_ofFileNow 98 = .ok (.ireturn, 1) := dk_172 (dk_at dksX1_ofFileNow_3 3 rfl rfl)
theorem dX1_ofFileNow_99 : decode cX1_ofFileNow 99 = .ok (.aload_n 0, 1) := dk_42 (dk_at dksX1_ofFileNow_3 4 rfl rfl)
theorem dX1_ofFileNow_100 : decode cX1_ofFileNow 100 = .ok (.getfield 39, 3) := dk_180 0 39 (dk_at dksX1_ofFileNow_3 5 rfl rfl)
theorem dX1_ofFileNow_103 : decode cX1_ofFileNow 103 = .ok (.getfield 224, 3) := dk_180 0 224 (dk_at dksX1_ofFileNow_3 8 rfl rfl)
theorem dX1_ofFileNow_106 : decode cX1_ofFileNow 106 = .ok (.ireturn, 1) := dk_172 (dk_at dksX1_ofFileNow_3 11 rfl rfl)
theorem dX1_ofFileNow_107 : decode cX1_ofFileNow 107 = .ok (.aload_n 0, 1) := dk_42 (dk_at dksX1_ofFileNow_3 12 rfl rfl)
theorem dX1_ofFileNow_108 : decode cX1_ofFileNow 108 = .ok (.getfield 39, 3) := dk_180 0 39 (dk_at dksX1_ofFileNow_3 13 rfl rfl)
theorem dX1_ofFileNow_111 : decode cX1_ofFileNow 111 = .ok (.invokevirtual 154, 3) := dk_182 0 154 (dk_at dksX1_ofFileNow_3 16 rfl rfl)
theorem dX1_ofFileNow_114 : decode cX1_ofFileNow 114 = .ok (.ireturn, 1) := dk_172 (dk_at dksX1_ofFileNow_3 19 rfl rfl)
theorem dX1_ofFileNow_115 : decode cX1_ofFileNow 115 = .ok (.aload_n 0, 1) := dk_42 (dk_at dksX1_ofFileNow_3 20 rfl rfl)
theorem dX1_ofFileNow_116 : decode cX1_ofFileNow 116 = .ok (.getfield 39, 3) := dk_180 0 39 (dk_at dksX1_ofFileNow_3 21 rfl rfl)
theorem dX1_ofFileNow_119 : decode cX1_ofFileNow 119 = .ok (.getfield 267, 3) := dk_180 1 11 (dk_at dksX1_ofFileNow_4 0 rfl rfl)
theorem dX1_ofFileNow_122 : decode cX1_ofFileNow 122 = .ok (.ireturn, 1) := dk_172 (dk_at dksX1_ofFileNow_4 3 rfl rfl)
theorem dX1_ofFileNow_123 : decode cX1_ofFileNow 123 = .ok (.aload_n 0, 1) := dk_42 (dk_at dksX1_ofFileNow_4 4 rfl rfl)
theorem dX1_ofFileNow_124 : decode cX1_ofFileNow 124 = .ok (.getfield 39, 3) := dk_180 0 39 (dk_at dksX1_ofFileNow_4 5 rfl rfl)
theorem dX1_ofFileNow_127 : decode cX1_ofFileNow 127 = .ok (.getfield 270, 3) := dk_180 1 14 (dk_at dksX1_ofFileNow_4 8 rfl rfl)
theorem dX1_ofFileNow_130 : decode cX1_ofFileNow 130 = .ok (.ireturn, 1) := dk_172 (dk_at dksX1_ofFileNow_4 11 rfl rfl)
theorem dX1_ofFileNow_131 : decode cX1_ofFileNow 131 = .ok (.aload_n 0, 1) := dk_42 (dk_at dksX1_ofFileNow_4 12 rfl rfl)
theorem dX1_ofFileNow_132 : decode cX1_ofFileNow 132 = .ok (.getfield 39, 3) := dk_180 0 39 (dk_at dksX1_ofFileNow_4 13 rfl rfl)
theorem dX1_ofFileNow_135 : decode cX1_ofFileNow 135 = .ok (.getfield 273, 3) := dk_180 1 17 (dk_at dksX1_ofFileNow_4 16 rfl rfl)
theorem dX1_ofFileNow_138 : decode cX1_ofFileNow 138 = .ok (.ireturn, 1) := dk_172 (dk_at dksX1_ofFileNow_4 19 rfl rfl)
theorem dX1_ofFileNow_139 : decode cX1_ofFileNow 139 = .ok (.aload_n 0, 1) := dk_42 (dk_at dksX1_ofFileNow_4 20 rfl rfl)
theorem dX1_ofFileNow_140 : decode cX1_ofFileNow 140 = .ok (.getfield 39, 3) := dk_180 0 39 (dk_at dksX1_ofFileNow_4 21 rfl rfl)
theorem dX1_ofFileNow_143 : decode cX1_ofFileNow 143 = .ok (.getfield 117, 3) := dk_180 0 117 (dk_at dksX1_ofFileNow_5 0 rfl rfl)
theorem dX1_ofFileNow_146 : decode cX1_ofFileNow 146 = .ok (.getfield 276, 3) := dk_180 1 20 (dk_at dksX1_ofFileNow_5 3 rfl rfl)
theorem dX1_ofFileNow_149 : decode cX1_ofFileNow 149 = .ok (.ireturn, 1) := dk_172 (dk_at dksX1_ofFileNow_5 6 rfl rfl)
theorem dX1_ofFileNow_150 : decode cX1_ofFileNow 150 = .ok (.aload_n 0, 1) := dk_42 (dk_at dksX1_ofFileNow_5 7 rfl rfl)
theorem dX1_ofFileNow_151 : decode cX1_ofFileNow 151 = .ok (.getfield 39, 3) := dk_180 0 39 (dk_at dksX1_ofFileNow_5 8 rfl rfl)
theorem dX1_ofFileNow_154 : decode cX1_ofFileNow 154 = .ok (.getfield 117, 3) := dk_180 0 117 (dk_at dksX1_ofFileNow_5 11 rfl rfl)
theorem dX1_ofFileNow_157 : decode cX1_ofFileNow 157 = .ok (.getfield 279, 3) := dk_180 1 23 (dk_at dksX1_ofFileNow_5 14 rfl rfl)
theorem dX1_ofFileNow_160 : decode cX1_ofFileNow 160 = .ok (.ireturn, 1) := dk_172 (dk_at dksX1_ofFileNow_5 17 rfl rfl)
theorem dX1_ofFileNow_161 : decode cX1_ofFileNow 161 = .ok (.aload_n 0, 1) := dk_42 (dk_at dksX1_ofFileNow_5 18 rfl rfl)
theorem dX1_ofFileNow_162 : decode cX1_ofFileNow 162 = .ok (.getfield 39, 3) := dk_180 0 39 (dk_at dksX1_ofFileNow_5 19 rfl rfl)
theorem dX1_ofFileNow_165 : decode cX1_ofFileNow 165 = .ok (.invokevirtual 180, 3) := dk_182 0 180 (dk_at dksX1_ofFileNow_6 0 rfl rfl)
theorem dX1_ofFileNow_168 : decode cX1_ofFileNow 168 = .ok (.ireturn, 1) := dk_172 (dk_at dksX1_ofFileNow_6 3 rfl rfl)
theorem dX1_ofFileNow_169 : decode cX1_ofFileNow 169 = .ok (.aload_n 0, 1) := dk_42 (dk_at dksX1_ofFileNow_6 4 rfl rfl)
theorem dX1_ofFileNow_170 : decode cX1_ofFileNow 170 = .ok (.getfield 39, 3) := dk_180 0 39 (dk_at dksX1_ofFileNow_6 5 rfl rfl)
theorem dX1_ofFileNow_173 : decode cX1_ofFileNow 173 = .ok (.invokevirtual 282, 3) := dk_182 1 26 (dk_at dksX1_ofFileNow_6 8 rfl rfl)
theorem dX1_ofFileNow_176 : decode cX1_ofFileNow 176 = .ok (.ireturn, 1) := dk_172 (dk_at dksX1_ofFileNow_6 11 rfl rfl)
theorem dX1_ofFileNow_177 : decode cX1_ofFileNow 177 = .ok (.aload_n 0, 1) := dk_42 (dk_at dksX1_ofFileNow_6 12 rfl rfl)
theorem dX1_ofFileNow_178 : decode cX1_ofFileNow 178 = .ok (.getfield 39, 3) := dk_180 0 39 (dk_at dksX1_ofFileNow_6 13 rfl rfl)
theorem dX1_ofFileNow_181 : decode cX1_ofFileNow 181 = .ok (.getfield 285, 3) := dk_180 1 29 (dk_at dksX1_ofFileNow_6 16 rfl rfl)
theorem dX1_ofFileNow_184 : decode cX1_ofFileNow 184 = .ok (.ireturn, 1) := dk_172 (dk_at dksX1_ofFileNow_6 19 rfl rfl)
theorem dX1_ofFileNow_185 : decode cX1_ofFileNow 185 = .ok (.aload_n 0, 1) := dk_42 (dk_at dksX1_ofFileNow_6 20 rfl rfl)
theorem dX1_ofFileNow_186 : decode cX1_ofFileNow 186 = .ok (.getfield 39, 3) := dk_180 0 39 (dk_at dksX1_ofFileNow_6 21 rfl rfl)
theorem dX1_ofFileNow_189 : decode cX1_ofFileNow 189 = .ok (.getfield 288, 3) := dk_180 1 32 (dk_at dksX1_ofFileNow_7 0 rfl rfl)
theorem dX1_ofFileNow_192 : decode cX1_ofFileNow 192 = .ok (.ireturn, 1) := dk_172 (dk_at dksX1_ofFileNow_7 3 rfl rfl)
theorem dX1_ofFileNow_193 : decode cX1_ofFileNow 193 = .ok (.aload_n 0, 1) := dk_42 (dk_at dksX1_ofFileNow_7 4 rfl rfl)
theorem dX1_ofFileNow_194 : decode cX1_ofFileNow 194 = .ok (.iload_n 1, 1) := dk_27 (dk_at dksX1_ofFileNow_7 5 rfl rfl)
theorem dX1_ofFileNow_195 : decode cX1_ofFileNow 195 = .ok (.invokevirtual 291, 3) := dk_182 1 35 (dk_at dksX1_ofFileNow_7 6 rfl rfl)
theorem dX1_ofFileNow_198 : decode cX1_ofFileNow 198 = .ok (.ireturn, 1) := dk_172 (dk_at dksX1_ofFileNow_7 9 rfl rfl)
abbrev cX1_ofDesk : ByteArray := prog_1_method_40_code
def yX1_ofDesk : MethodName := ⟨RX1, "ofDesk", "(I)I"⟩
def dkwX1_ofDesk_4 : List UInt8 := [180, 0, 246, 172]
abbrev dktX1_ofDesk_4 : List UInt8 := dkwX1_ofDesk_4 ++ []
def dkwX1_ofDesk_3 : List UInt8 := [182, 0, 7, 172, 42, 180, 0, 47, 182, 0, 7, 42, 180, 0, 97, 100, 172, 42, 180, 0, 31, 172, 42]
abbrev dktX1_ofDesk_3 : List UInt8 := dkwX1_ofDesk_3 ++ dktX1_ofDesk_4
def dkwX1_ofDesk_2 : List UInt8 := [42, 180, 0, 198, 172, 42, 180, 0, 205, 172, 42, 180, 0, 234, 172, 42, 180, 0, 243, 172, 42, 180, 0, 47]
abbrev dktX1_ofDesk_2 : List UInt8 := dkwX1_ofDesk_2 ++ dktX1_ofDesk_3
def dkwX1_ofDesk_1 : List UInt8 := [170, 0, 0, 0, 0, 0, 89, 0, 0, 0, 14, 0, 0, 0, 20, 0, 0, 0, 43, 0, 0, 0, 48, 0, 0, 0, 53, 0, 0, 0, 58, 0, 0, 0, 63, 0, 0, 0, 71, 0, 0, 0, 84]
abbrev dktX1_ofDesk_1 : List UInt8 := dkwX1_ofDesk_1 ++ dktX1_ofDesk_2
def dkwX1_ofDesk_0 : List UInt8 := [27]
abbrev dktX1_ofDesk_0 : List UInt8 := dkwX1_ofDesk_0 ++ dktX1_ofDesk_1
theorem dksX1_ofDesk_0 : cX1_ofDesk.data.toList.drop 0 = dktX1_ofDesk_0 := by decide +kernel
theorem dksX1_ofDesk_1 : cX1_ofDesk.data.toList.drop 1 = dktX1_ofDesk_1 := dk_seg dksX1_ofDesk_0 1 rfl rfl
theorem dksX1_ofDesk_2 : cX1_ofDesk.data.toList.drop 44 = dktX1_ofDesk_2 := dk_seg dksX1_ofDesk_1 43 rfl rfl
theorem dksX1_ofDesk_3 : cX1_ofDesk.data.toList.drop 68 = dktX1_ofDesk_3 := dk_seg dksX1_ofDesk_2 24 rfl rfl
theorem dksX1_ofDesk_4 : cX1_ofDesk.data.toList.drop 91 = dktX1_ofDesk_4 := dk_seg dksX1_ofDesk_3 23 rfl rfl
theorem dX1_ofDesk_0 : decode cX1_ofDesk 0 = .ok (.iload_n 1, 1) := dk_27 (dk_at dksX1_ofDesk_0 0 rfl rfl)
theorem dX1_ofDesk_1 : decode cX1_ofDesk 1 = .ok (.tableswitch 89 14 20 #[43, 48, 53, 58, 63, 71, 84], 43) := by decide +kernel
theorem dX1_ofDesk_44 : decode cX1_ofDesk 44 = .ok (.aload_n 0, 1) := dk_42 (dk_at dksX1_ofDesk_2 0 rfl rfl)
theorem dX1_ofDesk_45 : decode cX1_ofDesk 45 = .ok (.getfield 198, 3) := dk_180 0 198 (dk_at dksX1_ofDesk_2 1 rfl rfl)
theorem dX1_ofDesk_48 : decode cX1_ofDesk 48 = .ok (.ireturn, 1) := dk_172 (dk_at dksX1_ofDesk_2 4 rfl rfl)
theorem dX1_ofDesk_49 : decode cX1_ofDesk 49 = .ok (.aload_n 0, 1) := dk_42 (dk_at dksX1_ofDesk_2 5 rfl rfl)
theorem dX1_ofDesk_50 : decode cX1_ofDesk 50 = .ok (.getfield 205, 3) := dk_180 0 205 (dk_at dksX1_ofDesk_2 6 rfl rfl)
theorem dX1_ofDesk_53 : decode cX1_ofDesk 53 = .ok (.ireturn, 1) := dk_172 (dk_at dksX1_ofDesk_2 9 rfl rfl)
theorem dX1_ofDesk_54 : decode cX1_ofDesk 54 = .ok (.aload_n 0, 1) := dk_42 (dk_at dksX1_ofDesk_2 10 rfl rfl)
theorem dX1_ofDesk_55 : decode cX1_ofDesk 55 = .ok (.getfield 234, 3) := dk_180 0 234 (dk_at dksX1_ofDesk_2 11 rfl rfl)
theorem dX1_ofDesk_58 : decode cX1_ofDesk 58 = .ok (.ireturn, 1) := dk_172 (dk_at dksX1_ofDesk_2 14 rfl rfl)
theorem dX1_ofDesk_59 : decode cX1_ofDesk 59 = .ok (.aload_n 0, 1) := dk_42 (dk_at dksX1_ofDesk_2 15 rfl rfl)
theorem dX1_ofDesk_60 : decode cX1_ofDesk 60 = .ok (.getfield 243, 3) := dk_180 0 243 (dk_at dksX1_ofDesk_2 16 rfl rfl)
theorem dX1_ofDesk_63 : decode cX1_ofDesk 63 = .ok (.ireturn, 1) := dk_172 (dk_at dksX1_ofDesk_2 19 rfl rfl)
theorem dX1_ofDesk_64 : decode cX1_ofDesk 64 = .ok (.aload_n 0, 1) := dk_42 (dk_at dksX1_ofDesk_2 20 rfl rfl)
theorem dX1_ofDesk_65 : decode cX1_ofDesk 65 = .ok (.getfield 47, 3) := dk_180 0 47 (dk_at dksX1_ofDesk_2 21 rfl rfl)
theorem dX1_ofDesk_68 : decode cX1_ofDesk 68 = .ok (.invokevirtual 7, 3) := dk_182 0 7 (dk_at dksX1_ofDesk_3 0 rfl rfl)
theorem dX1_ofDesk_71 : decode cX1_ofDesk 71 = .ok (.ireturn, 1) := dk_172 (dk_at dksX1_ofDesk_3 3 rfl rfl)
theorem dX1_ofDesk_72 : decode cX1_ofDesk 72 = .ok (.aload_n 0, 1) := dk_42 (dk_at dksX1_ofDesk_3 4 rfl rfl)
theorem dX1_ofDesk_73 : decode cX1_ofDesk 73 = .ok (.getfield 47, 3) := dk_180 0 47 (dk_at dksX1_ofDesk_3 5 rfl rfl)
theorem dX1_ofDesk_76 : decode cX1_ofDesk 76 = .ok (.invokevirtual 7, 3) := dk_182 0 7 (dk_at dksX1_ofDesk_3 8 rfl rfl)
theorem dX1_ofDesk_79 : decode cX1_ofDesk 79 = .ok (.aload_n 0, 1) := dk_42 (dk_at dksX1_ofDesk_3 11 rfl rfl)
theorem dX1_ofDesk_80 : decode cX1_ofDesk 80 = .ok (.getfield 97, 3) := dk_180 0 97 (dk_at dksX1_ofDesk_3 12 rfl rfl)
theorem dX1_ofDesk_83 : decode cX1_ofDesk 83 = .ok (.isub, 1) := dk_100 (dk_at dksX1_ofDesk_3 15 rfl rfl)
theorem dX1_ofDesk_84 : decode cX1_ofDesk 84 = .ok (.ireturn, 1) := dk_172 (dk_at dksX1_ofDesk_3 16 rfl rfl)
theorem dX1_ofDesk_85 : decode cX1_ofDesk 85 = .ok (.aload_n 0, 1) := dk_42 (dk_at dksX1_ofDesk_3 17 rfl rfl)
theorem dX1_ofDesk_86 : decode cX1_ofDesk 86 = .ok (.getfield 31, 3) := dk_180 0 31 (dk_at dksX1_ofDesk_3 18 rfl rfl)
theorem dX1_ofDesk_89 : decode cX1_ofDesk 89 = .ok (.ireturn, 1) := dk_172 (dk_at dksX1_ofDesk_3 21 rfl rfl)
theorem dX1_ofDesk_90 : decode cX1_ofDesk 90 = .ok (.aload_n 0, 1) := dk_42 (dk_at dksX1_ofDesk_3 22 rfl rfl)
theorem dX1_ofDesk_91 : decode cX1_ofDesk 91 = .ok (.getfield 246, 3) := dk_180 0 246 (dk_at dksX1_ofDesk_4 0 rfl rfl)
theorem dX1_ofDesk_94 : decode cX1_ofDesk 94 = .ok (.ireturn, 1) := dk_172 (dk_at dksX1_ofDesk_4 3 rfl rfl)
abbrev cX1_add : ByteArray := prog_1_method_62_code
def yX1_add : MethodName := ⟨RX1, "add", "(JJ)J"⟩
def dkwX1_add_0 : List UInt8 := [30, 20, 1, 127, 105, 32, 97, 173]
abbrev dktX1_add_0 : List UInt8 := dkwX1_add_0 ++ []
theorem dksX1_add_0 : cX1_add.data.toList.drop 0 = dktX1_add_0 := by decide +kernel
theorem dX1_add_0 : decode cX1_add 0 = .ok (.lload_n 0, 1) := dk_30 (dk_at dksX1_add_0 0 rfl rfl)
theorem dX1_add_1 : decode cX1_add 1 = .ok (.ldc2_w 383, 3) := dk_20 1 127 (dk_at dksX1_add_0 1 rfl rfl)
theorem dX1_add_4 : decode cX1_add 4 = .ok (.lmul, 1) := dk_105 (dk_at dksX1_add_0 4 rfl rfl)
theorem dX1_add_5 : decode cX1_add 5 = .ok (.lload_n 2, 1) := dk_32 (dk_at dksX1_add_0 5 rfl rfl)
theorem dX1_add_6 : decode cX1_add 6 = .ok (.ladd, 1) := dk_97 (dk_at dksX1_add_0 6 rfl rfl)
theorem dX1_add_7 : decode cX1_add 7 = .ok (.lreturn, 1) := dk_173 (dk_at dksX1_add_0 7 rfl rfl)
abbrev cX1_addFile : ByteArray := prog_1_method_63_code
def yX1_addFile : MethodName := ⟨RX1, "addFile", "(J)J"⟩
def dkwX1_addFile_7 : List UInt8 := [180, 0, 162, 133, 184, 1, 129, 66, 132, 7, 1, 167, 255, 207, 132, 5, 1, 167, 255, 163, 33, 173]
abbrev dktX1_addFile_7 : List UInt8 := dkwX1_addFile_7 ++ []
def dkwX1_addFile_6 : List UInt8 := [182, 0, 13, 192, 0, 17, 180, 0, 19, 133, 184, 1, 129, 25, 6, 21, 7, 182, 0, 13, 192, 0, 17]
abbrev dktX1_addFile_6 : List UInt8 := dkwX1_addFile_6 ++ dktX1_addFile_7
def dkwX1_addFile_5 : List UInt8 := [182, 0, 113, 58, 6, 3, 54, 7, 21, 7, 25, 6, 182, 0, 7, 162, 0, 45, 33, 25, 6, 21, 7]
abbrev dktX1_addFile_5 : List UInt8 := dkwX1_addFile_5 ++ dktX1_addFile_6
def dkwX1_addFile_4 : List UInt8 := [180, 0, 82, 182, 0, 7, 162, 0, 84, 42, 180, 0, 39, 180, 0, 82, 21, 5, 182, 0, 13, 192, 0, 88]
abbrev dktX1_addFile_4 : List UInt8 := dkwX1_addFile_4 ++ dktX1_addFile_5
def dkwX1_addFile_3 : List UInt8 := [182, 1, 132, 133, 184, 1, 129, 66, 132, 5, 1, 167, 255, 182, 3, 54, 5, 21, 5, 42, 180, 0, 39]
abbrev dktX1_addFile_3 : List UInt8 := dkwX1_addFile_3 ++ dktX1_addFile_4
def dkwX1_addFile_2 : List UInt8 := [167, 255, 233, 33, 42, 180, 0, 39, 180, 0, 82, 21, 5, 182, 0, 13, 192, 0, 88, 184, 1, 77]
abbrev dktX1_addFile_2 : List UInt8 := dkwX1_addFile_2 ++ dktX1_addFile_3
def dkwX1_addFile_1 : List UInt8 := [21, 6, 8, 163, 0, 23, 33, 42, 21, 5, 21, 6, 182, 1, 52, 133, 184, 1, 129, 66, 132, 6, 1]
abbrev dktX1_addFile_1 : List UInt8 := dkwX1_addFile_1 ++ dktX1_addFile_2
def dkwX1_addFile_0 : List UInt8 := [31, 66, 3, 54, 5, 21, 5, 42, 180, 0, 39, 180, 0, 82, 182, 0, 7, 162, 0, 65, 3, 54, 6]
abbrev dktX1_addFile_0 : List UInt8 := dkwX1_addFile_0 ++ dktX1_addFile_1
theorem dksX1_addFile_0 : cX1_addFile.data.toList.drop 0 = dktX1_addFile_0 := by decide +kernel
theorem dksX1_addFile_1 : cX1_addFile.data.toList.drop 23 = dktX1_addFile_1 := dk_seg dksX1_addFile_0 23 rfl rfl
theorem dksX1_addFile_2 : cX1_addFile.data.toList.drop 46 = dktX1_addFile_2 := dk_seg dksX1_addFile_1 23 rfl rfl
theorem dksX1_addFile_3 : cX1_addFile.data.toList.drop 68 = dktX1_addFile_3 := dk_seg dksX1_addFile_2 22 rfl rfl
theorem dksX1_addFile_4 : cX1_addFile.data.toList.drop 91 = dktX1_addFile_4 := dk_seg dksX1_addFile_3 23 rfl rfl
theorem dksX1_addFile_5 : cX1_addFile.data.toList.drop 115 = dktX1_addFile_5 := dk_seg dksX1_addFile_4 24 rfl rfl
theorem dksX1_addFile_6 : cX1_addFile.data.toList.drop 138 = dktX1_addFile_6 := dk_seg dksX1_addFile_5 23 rfl rfl
theorem dksX1_addFile_7 : cX1_addFile.data.toList.drop 161 = dktX1_addFile_7 := dk_seg dksX1_addFile_6 23 rfl rfl
theorem dX1_addFile_0 : decode cX1_addFile 0 = .ok (.lload_n 1, 1) := dk_31 (dk_at dksX1_addFile_0 0 rfl rfl)
theorem dX1_addFile_1 : decode cX1_addFile 1 = .ok (.lstore_n 3, 1) := dk_66 (dk_at dksX1_addFile_0 1 rfl rfl)
theorem dX1_addFile_2 : decode cX1_addFile 2 = .ok (.iconst 0, 1) := dk_3 (dk_at dksX1_addFile_0 2 rfl rfl)
theorem dX1_addFile_3 : decode cX1_addFile 3 = .ok (.istore 5, 2) := dk_54 5 (dk_at dksX1_addFile_0 3 rfl rfl)
theorem dX1_addFile_5 : decode cX1_addFile 5 = .ok (.iload 5, 2) := dk_21 5 (dk_at dksX1_addFile_0 5 rfl rfl)
theorem dX1_addFile_7 : decode cX1_addFile 7 = .ok (.aload_n 0, 1) := dk_42 (dk_at dksX1_addFile_0 7 rfl rfl)
theorem dX1_addFile_8 : decode cX1_addFile 8 = .ok (.getfield 39, 3) := dk_180 0 39 (dk_at dksX1_addFile_0 8 rfl rfl)
theorem dX1_addFile_11 : decode cX1_addFile 11 = .ok (.getfield 82, 3) := dk_180 0 82 (dk_at dksX1_addFile_0 11 rfl rfl)
theorem dX1_addFile_14 : decode cX1_addFile 14 = .ok (.invokevirtual 7, 3) := dk_182 0 7 (dk_at dksX1_addFile_0 14 rfl rfl)
theorem dX1_addFile_17 : decode cX1_addFile 17 = .ok (.if_icmp .ge 65, 3) := dk_162 0 65 (dk_at dksX1_addFile_0 17 rfl rfl)
theorem dX1_addFile_20 : decode cX1_addFile 20 = .ok (.iconst 0, 1) := dk_3 (dk_at dksX1_addFile_0 20 rfl rfl)
theorem dX1_addFile_21 : decode cX1_addFile 21 = .ok (.istore 6, 2) := dk_54 6 (dk_at dksX1_addFile_0 21 rfl rfl)
theorem dX1_addFile_23 : decode cX1_addFile 23 = .ok (.iload 6, 2) := dk_21 6 (dk_at dksX1_addFile_1 0 rfl rfl)
theorem dX1_addFile_25 : decode cX1_addFile 25 = .ok (.iconst 5, 1) := dk_8 (dk_at dksX1_addFile_1 2 rfl rfl)
theorem dX1_addFile_26 : decode cX1_addFile 26 = .ok (.if_icmp .gt 23, 3) := dk_163 0 23 (dk_at dksX1_addFile_1 3 rfl rfl)
theorem dX1_addFile_29 : decode cX1_addFile 29 = .ok (.lload_n 3, 1) := dk_33 (dk_at dksX1_addFile_1 6 rfl rfl)
theorem dX1_addFile_30 : decode cX1_addFile 30 = .ok (.aload_n 0, 1) := dk_42 (dk_at dksX1_addFile_1 7 rfl rfl)
theorem dX1_addFile_31 : decode cX1_addFile 31 = .ok (.iload 5, 2) := dk_21 5 (dk_at dksX1_addFile_1 8 rfl rfl)
theorem dX1_addFile_33 : decode cX1_addFile 33 = .ok (.iload 6, 2) := dk_21 6 (dk_at dksX1_addFile_1 10 rfl rfl)
theorem dX1_addFile_35 : decode cX1_addFile 35 = .ok (.invokevirtual 308, 3) := dk_182 1 52 (dk_at dksX1_addFile_1 12 rfl rfl)
theorem dX1_addFile_38 : decode cX1_addFile 38 = .ok (.i2l, 1) := dk_133 (dk_at dksX1_addFile_1 15 rfl rfl)
theorem dX1_addFile_39 : decode cX1_addFile 39 = .ok (.invokestatic 385, 3) := dk_184 1 129 (dk_at dksX1_addFile_1 16 rfl rfl)
theorem dX1_addFile_42 : decode cX1_addFile 42 = .ok (.lstore_n 3, 1) := dk_66 (dk_at dksX1_addFile_1 19 rfl rfl)
theorem dX1_addFile_43 : decode cX1_addFile 43 = .ok (.iinc 6 1, 3) := dk_132 6 1 (dk_at dksX1_addFile_1 20 rfl rfl)
theorem dX1_addFile_46 : decode cX1_addFile 46 = .ok (.goto (-23), 3) := dk_167 255 233 (dk_at dksX1_addFile_2 0 rfl rfl)
theorem dX1_addFile_49 : decode cX1_addFile 49 = .ok (.lload_n 3, 1) := dk_33 (dk_at dksX1_addFile_2 3 rfl rfl)
theorem dX1_addFile_50 : decode cX1_addFile 50 = .ok (.aload_n 0, 1) := dk_42 (dk_at dksX1_addFile_2 4 rfl rfl)
theorem dX1_addFile_51 : decode cX1_addFile 51 = .ok (.getfield 39, 3) := dk_180 0 39 (dk_at dksX1_addFile_2 5 rfl rfl)
theorem dX1_addFile_54 : decode cX1_addFile 54 = .ok (.getfield 82, 3) := dk_180 0 82 (dk_at dksX1_addFile_2 8 rfl rfl)
theorem dX1_addFile_57 : decode cX1_addFile 57 = .ok (.iload 5, 2) := dk_21 5 (dk_at dksX1_addFile_2 11 rfl rfl)
theorem dX1_addFile_59 : decode cX1_addFile 59 = .ok (.invokevirtual 13, 3) := dk_182 0 13 (dk_at dksX1_addFile_2 13 rfl rfl)
theorem dX1_addFile_62 : decode cX1_addFile 62 = .ok (.checkcast 88, 3) := dk_192 0 88 (dk_at dksX1_addFile_2 16 rfl rfl)
theorem dX1_addFile_65 : decode cX1_addFile 65 = .ok (.invokestatic 333, 3) := dk_184 1 77 (dk_at dksX1_addFile_2 19 rfl rfl)
theorem dX1_addFile_68 : decode cX1_addFile 68 = .ok (.invokevirtual 388, 3) := dk_182 1 132 (dk_at dksX1_addFile_3 0 rfl rfl)
theorem dX1_addFile_71 : decode cX1_addFile 71 = .ok (.i2l, 1) := dk_133 (dk_at dksX1_addFile_3 3 rfl rfl)
theorem dX1_addFile_72 : decode cX1_addFile 72 = .ok (.invokestatic 385, 3) := dk_184 1 129 (dk_at dksX1_addFile_3 4 rfl rfl)
theorem dX1_addFile_75 : decode cX1_addFile 75 = .ok (.lstore_n 3, 1) := dk_66 (dk_at dksX1_addFile_3 7 rfl rfl)
theorem dX1_addFile_76 : decode cX1_addFile 76 = .ok (.iinc 5 1, 3) := dk_132 5 1 (dk_at dksX1_addFile_3 8 rfl rfl)
theorem dX1_addFile_79 : decode cX1_addFile 79 = .ok (.goto (-74), 3) := dk_167 255 182 (dk_at dksX1_addFile_3 11 rfl rfl)
theorem dX1_addFile_82 : decode cX1_addFile 82 = .ok (.iconst 0, 1) := dk_3 (dk_at dksX1_addFile_3 14 rfl rfl)
theorem dX1_addFile_83 : decode cX1_addFile 83 = .ok (.istore 5, 2) := dk_54 5 (dk_at dksX1_addFile_3 15 rfl rfl)
theorem dX1_addFile_85 : decode cX1_addFile 85 = .ok (.iload 5, 2) := dk_21 5 (dk_at dksX1_addFile_3 17 rfl rfl)
theorem dX1_addFile_87 : decode cX1_addFile 87 = .ok (.aload_n 0, 1) := dk_42 (dk_at dksX1_addFile_3 19 rfl rfl)
theorem dX1_addFile_88 : decode cX1_addFile 88 = .ok (.getfield 39, 3) := dk_180 0 39 (dk_at dksX1_addFile_3 20 rfl rfl)
theorem dX1_addFile_91 : decode cX1_addFile 91 = .ok (.getfield 82, 3) := dk_180 0 82 (dk_at dksX1_addFile_4 0 rfl rfl)
theorem dX1_addFile_94 : decode cX1_addFile 94 = .ok (.invokevirtual 7, 3) := dk_182 0 7 (dk_at dksX1_addFile_4 3 rfl rfl)
theorem dX1_addFile_97 : decode cX1_addFile 97 = .ok (.if_icmp .ge 84, 3) := dk_162 0 84 (dk_at dksX1_addFile_4 6 rfl rfl)
theorem dX1_addFile_100 : decode cX1_addFile 100 = .ok (.aload_n 0, 1) := dk_42 (dk_at dksX1_addFile_4 9 rfl rfl)
theorem dX1_addFile_101 : decode cX1_addFile 101 = .ok (.getfield 39, 3) := dk_180 0 39 (dk_at dksX1_addFile_4 10 rfl rfl)
theorem dX1_addFile_104 : decode cX1_addFile 104 = .ok (.getfield 82, 3) := dk_180 0 82 (dk_at dksX1_addFile_4 13 rfl rfl)
theorem dX1_addFile_107 : decode cX1_addFile 107 = .ok (.iload 5, 2) := dk_21 5 (dk_at dksX1_addFile_4 16 rfl rfl)
theorem dX1_addFile_109 : decode cX1_addFile 109 = .ok (.invokevirtual 13, 3) := dk_182 0 13 (dk_at dksX1_addFile_4 18 rfl rfl)
theorem dX1_addFile_112 : decode cX1_addFile 112 = .ok (.checkcast 88, 3) := dk_192 0 88 (dk_at dksX1_addFile_4 21 rfl rfl)
theorem dX1_addFile_115 : decode cX1_addFile 115 = .ok (.invokevirtual 113, 3) := dk_182 0 113 (dk_at dksX1_addFile_5 0 rfl rfl)
theorem dX1_addFile_118 : decode cX1_addFile 118 = .ok (.astore 6, 2) := dk_58 6 (dk_at dksX1_addFile_5 3 rfl rfl)
theorem dX1_addFile_120 : decode cX1_addFile 120 = .ok (.iconst 0, 1) := dk_3 (dk_at dksX1_addFile_5 5 rfl rfl)
theorem dX1_addFile_121 : decode cX1_addFile 121 = .ok (.istore 7, 2) := dk_54 7 (dk_at dksX1_addFile_5 6 rfl rfl)
theorem dX1_addFile_123 : decode cX1_addFile 123 = .ok (.iload 7, 2) := dk_21 7 (dk_at dksX1_addFile_5 8 rfl rfl)
theorem dX1_addFile_125 : decode cX1_addFile 125 = .ok (.aload 6, 2) := dk_25 6 (dk_at dksX1_addFile_5 10 rfl rfl)
theorem dX1_addFile_127 : decode cX1_addFile 127 = .ok (.invokevirtual 7, 3) := dk_182 0 7 (dk_at dksX1_addFile_5 12 rfl rfl)
theorem dX1_addFile_130 : decode cX1_addFile 130 = .ok (.if_icmp .ge 45, 3) := dk_162 0 45 (dk_at dksX1_addFile_5 15 rfl rfl)
theorem dX1_addFile_133 : decode cX1_addFile 133 = .ok (.lload_n 3, 1) := dk_33 (dk_at dksX1_addFile_5 18 rfl rfl)
theorem dX1_addFile_134 : decode cX1_addFile 134 = .ok (.aload 6, 2) := dk_25 6 (dk_at dksX1_addFile_5 19 rfl rfl)
theorem dX1_addFile_136 : decode cX1_addFile 136 = .ok (.iload 7, 2) := dk_21 7 (dk_at dksX1_addFile_5 21 rfl rfl)
theorem dX1_addFile_138 : decode cX1_addFile 138 = .ok (.invokevirtual 13, 3) := dk_182 0 13 (dk_at dksX1_addFile_6 0 rfl rfl)
theorem dX1_addFile_141 : decode cX1_addFile 141 = .ok (.checkcast 17, 3) := dk_192 0 17 (dk_at dksX1_addFile_6 3 rfl rfl)
theorem dX1_addFile_144 : decode cX1_addFile 144 = .ok (.getfield 19, 3) := dk_180 0 19 (dk_at dksX1_addFile_6 6 rfl rfl)
theorem dX1_addFile_147 : decode cX1_addFile 147 = .ok (.i2l, 1) := dk_133 (dk_at dksX1_addFile_6 9 rfl rfl)
theorem dX1_addFile_148 : decode cX1_addFile 148 = .ok (.invokestatic 385, 3) := dk_184 1 129 (dk_at dksX1_addFile_6 10 rfl rfl)
theorem dX1_addFile_151 : decode cX1_addFile 151 = .ok (.aload 6, 2) := dk_25 6 (dk_at dksX1_addFile_6 13 rfl rfl)
theorem dX1_addFile_153 : decode cX1_addFile 153 = .ok (.iload 7, 2) := dk_21 7 (dk_at dksX1_addFile_6 15 rfl rfl)
theorem dX1_addFile_155 : decode cX1_addFile 155 = .ok (.invokevirtual 13, 3) := dk_182 0 13 (dk_at dksX1_addFile_6 17 rfl rfl)
theorem dX1_addFile_158 : decode cX1_addFile 158 = .ok (.checkcast 17, 3) := dk_192 0 17 (dk_at dksX1_addFile_6 20 rfl rfl)
theorem dX1_addFile_161 : decode cX1_addFile 161 = .ok (.getfield 162, 3) := dk_180 0 162 (dk_at dksX1_addFile_7 0 rfl rfl)
theorem dX1_addFile_164 : decode cX1_addFile 164 = .ok (.i2l, 1) := dk_133 (dk_at dksX1_addFile_7 3 rfl rfl)
theorem dX1_addFile_165 : decode cX1_addFile 165 = .ok (.invokestatic 385, 3) := dk_184 1 129 (dk_at dksX1_addFile_7 4 rfl rfl)
theorem dX1_addFile_168 : decode cX1_addFile 168 = .ok (.lstore_n 3, 1) := dk_66 (dk_at dksX1_addFile_7 7 rfl rfl)
theorem dX1_addFile_169 : decode cX1_addFile 169 = .ok (.iinc 7 1, 3) := dk_132 7 1 (dk_at dksX1_addFile_7 8 rfl rfl)
theorem dX1_addFile_172 : decode cX1_addFile 172 = .ok (.goto (-49), 3) := dk_167 255 207 (dk_at dksX1_addFile_7 11 rfl rfl)
theorem dX1_addFile_175 : decode cX1_addFile 175 = .ok (.iinc 5 1, 3) := dk_132 5 1 (dk_at dksX1_addFile_7 14 rfl rfl)
theorem dX1_addFile_178 : decode cX1_addFile 178 = .ok (.goto (-93), 3) := dk_167 255 163 (dk_at dksX1_addFile_7 17 rfl rfl)
theorem dX1_addFile_181 : decode cX1_addFile 181 = .ok (.lload_n 3, 1) := dk_33 (dk_at dksX1_addFile_7 20 rfl rfl)
theorem dX1_addFile_182 : decode cX1_addFile 182 = .ok (.lreturn, 1) := dk_173 (dk_at dksX1_addFile_7 21 rfl rfl)
abbrev cX1_ofBucketNow : ByteArray := prog_1_method_42_code
def yX1_ofBucketNow : MethodName := ⟨RX1, "ofBucketNow", "(II)I"⟩
def dkwX1_ofBucketNow_4 : List UInt8 := [180, 1, 5, 172]
abbrev dktX1_ofBucketNow_4 : List UInt8 := dkwX1_ofBucketNow_4 ++ []
def dkwX1_ofBucketNow_3 : List UInt8 := [182, 0, 211, 172, 45, 180, 0, 195, 3, 182, 0, 13, 192, 0, 2, 180, 1, 5, 172, 45, 182, 1, 45]
abbrev dktX1_ofBucketNow_3 : List UInt8 := dkwX1_ofBucketNow_3 ++ dktX1_ofBucketNow_4
def dkwX1_ofBucketNow_2 : List UInt8 := [45, 182, 1, 41, 172, 45, 180, 0, 195, 182, 0, 7, 172, 45, 180, 1, 42, 172, 42, 180, 0, 39, 27]
abbrev dktX1_ofBucketNow_2 : List UInt8 := dkwX1_ofBucketNow_2 ++ dktX1_ofBucketNow_3
def dkwX1_ofBucketNow_1 : List UInt8 := [170, 0, 0, 0, 0, 0, 0, 78, 0, 0, 0, 0, 0, 0, 0, 4, 0, 0, 0, 36, 0, 0, 0, 41, 0, 0, 0, 49, 0, 0, 0, 54, 0, 0, 0, 63]
abbrev dktX1_ofBucketNow_1 : List UInt8 := dkwX1_ofBucketNow_1 ++ dktX1_ofBucketNow_2
def dkwX1_ofBucketNow_0 : List UInt8 := [42, 180, 0, 39, 180, 0, 82, 27, 182, 0, 13, 192, 0, 88, 78, 28]
abbrev dktX1_ofBucketNow_0 : List UInt8 := dkwX1_ofBucketNow_0 ++ dktX1_ofBucketNow_1
theorem dksX1_ofBucketNow_0 : cX1_ofBucketNow.data.toList.drop 0 = dktX1_ofBucketNow_0 := by decide +kernel
theorem dksX1_ofBucketNow_1 : cX1_ofBucketNow.data.toList.drop 16 = dktX1_ofBucketNow_1 := dk_seg dksX1_ofBucketNow_0 16 rfl rfl
theorem dksX1_ofBucketNow_2 : cX1_ofBucketNow.data.toList.drop 52 = dktX1_ofBucketNow_2 := dk_seg dksX1_ofBucketNow_1 36 rfl rfl
theorem dksX1_ofBucketNow_3 : cX1_ofBucketNow.data.toList.drop 75 = dktX1_ofBucketNow_3 := dk_seg dksX1_ofBucketNow_2 23 rfl rfl
theorem dksX1_ofBucketNow_4 : cX1_ofBucketNow.data.toList.drop 98 = dktX1_ofBucketNow_4 := dk_seg dksX1_ofBucketNow_3 23 rfl rfl
theorem dX1_ofBucketNow_0 : decode cX1_ofBucketNow 0 = .ok (.aload_n 0, 1) := dk_42 (dk_at dksX1_ofBucketNow_0 0 rfl rfl)
theorem dX1_ofBucketNow_1 : decode cX1_ofBucketNow 1 = .ok (.getfield 39, 3) := dk_180 0 39 (dk_at dksX1_ofBucketNow_0 1 rfl rfl)
theorem dX1_ofBucketNow_4 : decode cX1_ofBucketNow 4 = .ok (.getfield 82, 3) := dk_180 0 82 (dk_at dksX1_ofBucketNow_0 4 rfl rfl)
theorem dX1_ofBucketNow_7 : decode cX1_ofBucketNow 7 = .ok (.iload_n 1, 1) := dk_27 (dk_at dksX1_ofBucketNow_0 7 rfl rfl)
theorem dX1_ofBucketNow_8 : decode cX1_ofBucketNow 8 = .ok (.invokevirtual 13, 3) := dk_182 0 13 (dk_at dksX1_ofBucketNow_0 8 rfl rfl)
theorem dX1_ofBucketNow_11 : decode cX1_ofBucketNow 11 = .ok (.checkcast 88, 3) := dk_192 0 88 (dk_at dksX1_ofBucketNow_0 11 rfl rfl)
theorem dX1_ofBucketNow_14 : decode cX1_ofBucketNow 14 = .ok (.astore_n 3, 1) := dk_78 (dk_at dksX1_ofBucketNow_0 14 rfl rfl)
theorem dX1_ofBucketNow_15 : decode cX1_ofBucketNow 15 = .ok (.iload_n 2, 1) := dk_28 (dk_at dksX1_ofBucketNow_0 15 rfl rfl)
theorem dX1_ofBucketNow_16 : decode cX1_ofBucketNow 16 = .ok (.tableswitch 78 0 4 #[36, 41, 49, 54, 63], 36) := by decide +kernel
theorem dX1_ofBucketNow_52 : decode cX1_ofBucketNow 52 = .ok (.aload_n 3, 1) := dk_45 (dk_at dksX1_ofBucketNow_2 0 rfl rfl)
theorem dX1_ofBucketNow_53 : decode cX1_ofBucketNow 53 = .ok (.invokevirtual 297, 3) := dk_182 1 41 (dk_at dksX1_ofBucketNow_2 1 rfl rfl)
theorem dX1_ofBucketNow_56 : decode cX1_ofBucketNow 56 = .ok (.ireturn, 1) := dk_172 (dk_at dksX1_ofBucketNow_2 4 rfl rfl)
theorem dX1_ofBucketNow_57 : decode cX1_ofBucketNow 57 = .ok (.aload_n 3, 1) := dk_45 (dk_at dksX1_ofBucketNow_2 5 rfl rfl)
theorem dX1_ofBucketNow_58 : decode cX1_ofBucketNow 58 = .ok (.getfield 195, 3) := dk_180 0 195 (dk_at dksX1_ofBucketNow_2 6 rfl rfl)
theorem dX1_ofBucketNow_61 : decode cX1_ofBucketNow 61 = .ok (.invokevirtual 7, 3) := dk_182 0 7 (dk_at dksX1_ofBucketNow_2 9 rfl rfl)
theorem dX1_ofBucketNow_64 : decode cX1_ofBucketNow 64 = .ok (.ireturn, 1) := dk_172 (dk_at dksX1_ofBucketNow_2 12 rfl rfl)
theorem dX1_ofBucketNow_65 : decode cX1_ofBucketNow 65 = .ok (.aload_n 3, 1) := dk_45 (dk_at dksX1_ofBucketNow_2 13 rfl rfl)
theorem dX1_ofBucketNow_66 : decode cX1_ofBucketNow 66 = .ok (.getfield 298, 3) := dk_180 1 42 (dk_at dksX1_ofBucketNow_2 14 rfl rfl)
theorem dX1_ofBucketNow_69 : decode cX1_ofBucketNow 69 = .ok (.ireturn, 1) := dk_172 (dk_at dksX1_ofBucketNow_2 17 rfl rfl)
theorem dX1_ofBucketNow_70 : decode cX1_ofBucketNow 70 = .ok (.aload_n 0, 1) := dk_42 (dk_at dksX1_ofBucketNow_2 18 rfl rfl)
theorem dX1_ofBucketNow_71 : decode cX1_ofBucketNow 71 = .ok (.getfield 39, 3) := dk_180 0 39 (dk_at dksX1_ofBucketNow_2 19 rfl rfl)
theorem dX1_ofBucketNow_74 : decode cX1_ofBucketNow 74 = .ok (.iload_n 1, 1) := dk_27 (dk_at dksX1_ofBucketNow_2 22 rfl rfl)
theorem dX1_ofBucketNow_75 : decode cX1_ofBucketNow 75 = .ok (.invokevirtual 211, 3) := dk_182 0 211 (dk_at dksX1_ofBucketNow_3 0 rfl rfl)
theorem dX1_ofBucketNow_78 : decode cX1_ofBucketNow 78 = .ok (.ireturn, 1) := dk_172 (dk_at dksX1_ofBucketNow_3 3 rfl rfl)
theorem dX1_ofBucketNow_79 : decode cX1_ofBucketNow 79 = .ok (.aload_n 3, 1) := dk_45 (dk_at dksX1_ofBucketNow_3 4 rfl rfl)
theorem dX1_ofBucketNow_80 : decode cX1_ofBucketNow 80 = .ok (.getfield 195, 3) := dk_180 0 195 (dk_at dksX1_ofBucketNow_3 5 rfl rfl)
theorem dX1_ofBucketNow_83 : decode cX1_ofBucketNow 83 = .ok (.iconst 0, 1) := dk_3 (dk_at dksX1_ofBucketNow_3 8 rfl rfl)
theorem dX1_ofBucketNow_84 : decode cX1_ofBucketNow 84 = .ok (.invokevirtual 13, 3) := dk_182 0 13 (dk_at dksX1_ofBucketNow_3 9 rfl rfl)
theorem dX1_ofBucketNow_87 : decode cX1_ofBucketNow 87 = .ok (.checkcast 2, 3) := dk_192 0 2 (dk_at dksX1_ofBucketNow_3 12 rfl rfl)
theorem dX1_ofBucketNow_90 : decode cX1_ofBucketNow 90 = .ok (.getfield 261, 3) := dk_180 1 5 (dk_at dksX1_ofBucketNow_3 15 rfl rfl)
theorem dX1_ofBucketNow_93 : decode cX1_ofBucketNow 93 = .ok (.ireturn, 1) := dk_172 (dk_at dksX1_ofBucketNow_3 18 rfl rfl)
theorem dX1_ofBucketNow_94 : decode cX1_ofBucketNow 94 = .ok (.aload_n 3, 1) := dk_45 (dk_at dksX1_ofBucketNow_3 19 rfl rfl)
theorem dX1_ofBucketNow_95 : decode cX1_ofBucketNow 95 = .ok (.invokevirtual 301, 3) := dk_182 1 45 (dk_at dksX1_ofBucketNow_3 20 rfl rfl)
theorem dX1_ofBucketNow_98 : decode cX1_ofBucketNow 98 = .ok (.getfield 261, 3) := dk_180 1 5 (dk_at dksX1_ofBucketNow_4 0 rfl rfl)
theorem dX1_ofBucketNow_101 : decode cX1_ofBucketNow 101 = .ok (.ireturn, 1) := dk_172 (dk_at dksX1_ofBucketNow_4 3 rfl rfl)
abbrev cX1_chainOf : ByteArray := prog_1_method_44_code
def yX1_chainOf : MethodName := ⟨RX1, "chainOf", "(LSplitpointer$Bucket;)Ljava/lang/String;"⟩
def dkwX1_chainOf_5 : List UInt8 := [167, 255, 210, 132, 2, 1, 167, 255, 157, 43, 182, 1, 73, 176]
abbrev dktX1_chainOf_5 : List UInt8 := dkwX1_chainOf_5 ++ []
def dkwX1_chainOf_4 : List UInt8 := [182, 1, 64, 45, 21, 4, 182, 0, 13, 192, 0, 17, 180, 0, 19, 182, 1, 70, 87, 132, 4, 1]
abbrev dktX1_chainOf_4 : List UInt8 := dkwX1_chainOf_4 ++ dktX1_chainOf_5
def dkwX1_chainOf_3 : List UInt8 := [45, 182, 0, 7, 162, 0, 43, 43, 21, 4, 154, 0, 9, 19, 1, 60, 167, 0, 6, 19, 1, 68]
abbrev dktX1_chainOf_3 : List UInt8 := dkwX1_chainOf_3 ++ dktX1_chainOf_4
def dkwX1_chainOf_2 : List UInt8 := [182, 1, 64, 87, 42, 180, 0, 195, 28, 182, 0, 13, 192, 0, 2, 180, 0, 1, 78, 3, 54, 4, 21, 4]
abbrev dktX1_chainOf_2 : List UInt8 := dkwX1_chainOf_2 ++ dktX1_chainOf_3
def dkwX1_chainOf_1 : List UInt8 := [180, 0, 195, 182, 0, 7, 162, 0, 94, 43, 28, 154, 0, 9, 19, 1, 60, 167, 0, 6, 19, 1, 62]
abbrev dktX1_chainOf_1 : List UInt8 := dkwX1_chainOf_1 ++ dktX1_chainOf_2
def dkwX1_chainOf_0 : List UInt8 := [42, 182, 1, 41, 154, 0, 7, 19, 1, 55, 176, 187, 1, 57, 89, 183, 1, 59, 76, 3, 61, 28, 42]
abbrev dktX1_chainOf_0 : List UInt8 := dkwX1_chainOf_0 ++ dktX1_chainOf_1
theorem dksX1_chainOf_0 : cX1_chainOf.data.toList.drop 0 = dktX1_chainOf_0 := by decide +kernel
theorem dksX1_chainOf_1 : cX1_chainOf.data.toList.drop 23 = dktX1_chainOf_1 := dk_seg dksX1_chainOf_0 23 rfl rfl
theorem dksX1_chainOf_2 : cX1_chainOf.data.toList.drop 46 = dktX1_chainOf_2 := dk_seg dksX1_chainOf_1 23 rfl rfl
theorem dksX1_chainOf_3 : cX1_chainOf.data.toList.drop 70 = dktX1_chainOf_3 := dk_seg dksX1_chainOf_2 24 rfl rfl
theorem dksX1_chainOf_4 : cX1_chainOf.data.toList.drop 92 = dktX1_chainOf_4 := dk_seg dksX1_chainOf_3 22 rfl rfl
theorem dksX1_chainOf_5 : cX1_chainOf.data.toList.drop 114 = dktX1_chainOf_5 := dk_seg dksX1_chainOf_4 22 rfl rfl
theorem dX1_chainOf_0 : decode cX1_chainOf 0 = .ok (.aload_n 0, 1) := dk_42 (dk_at dksX1_chainOf_0 0 rfl rfl)
theorem dX1_chainOf_1 : decode cX1_chainOf 1 = .ok (.invokevirtual 297, 3) := dk_182 1 41 (dk_at dksX1_chainOf_0 1 rfl rfl)
theorem dX1_chainOf_4 : decode cX1_chainOf 4 = .ok (.ifCond .ne 7, 3) := dk_154 0 7 (dk_at dksX1_chainOf_0 4 rfl rfl)
theorem dX1_chainOf_7 : decode cX1_chainOf 7 = .ok (.ldc_w 311, 3) := dk_19 1 55 (dk_at dksX1_chainOf_0 7 rfl rfl)
theorem dX1_chainOf_10 : decode cX1_chainOf 10 = .ok (.areturn, 1) := dk_176 (dk_at dksX1_chainOf_0 10 rfl rfl)
theorem dX1_chainOf_11 : decode cX1_chainOf 11 = .ok (.new 313, 3) := dk_187 1 57 (dk_at dksX1_chainOf_0 11 rfl rfl)
theorem dX1_chainOf_14 : decode cX1_chainOf 14 = .ok (.dup, 1) := dk_89 (dk_at dksX1_chainOf_0 14 rfl rfl)
theorem dX1_chainOf_15 : decode cX1_chainOf 15 = .ok (.invokespecial 315, 3) := dk_183 1 59 (dk_at dksX1_chainOf_0 15 rfl rfl)
theorem dX1_chainOf_18 : decode cX1_chainOf 18 = .ok (.astore_n 1, 1) := dk_76 (dk_at dksX1_chainOf_0 18 rfl rfl)
theorem dX1_chainOf_19 : decode cX1_chainOf 19 = .ok (.iconst 0, 1) := dk_3 (dk_at dksX1_chainOf_0 19 rfl rfl)
theorem dX1_chainOf_20 : decode cX1_chainOf 20 = .ok (.istore_n 2, 1) := dk_61 (dk_at dksX1_chainOf_0 20 rfl rfl)
theorem dX1_chainOf_21 : decode cX1_chainOf 21 = .ok (.iload_n 2, 1) := dk_28 (dk_at dksX1_chainOf_0 21 rfl rfl)
theorem dX1_chainOf_22 : decode cX1_chainOf 22 = .ok (.aload_n 0, 1) := dk_42 (dk_at dksX1_chainOf_0 22 rfl rfl)
theorem dX1_chainOf_23 : decode cX1_chainOf 23 = .ok (.getfield 195, 3) := dk_180 0 195 (dk_at dksX1_chainOf_1 0 rfl rfl)
theorem dX1_chainOf_26 : decode cX1_chainOf 26 = .ok (.invokevirtual 7, 3) := dk_182 0 7 (dk_at dksX1_chainOf_1 3 rfl rfl)
theorem dX1_chainOf_29 : decode cX1_chainOf 29 = .ok (.if_icmp .ge 94, 3) := dk_162 0 94 (dk_at dksX1_chainOf_1 6 rfl rfl)
theorem dX1_chainOf_32 : decode cX1_chainOf 32 = .ok (.aload_n 1, 1) := dk_43 (dk_at dksX1_chainOf_1 9 rfl rfl)
theorem dX1_chainOf_33 : decode cX1_chainOf 33 = .ok (.iload_n 2, 1) := dk_28 (dk_at dksX1_chainOf_1 10 rfl rfl)
theorem dX1_chainOf_34 : decode cX1_chainOf 34 = .ok (.ifCond .ne 9, 3) := dk_154 0 9 (dk_at dksX1_chainOf_1 11 rfl rfl)
theorem dX1_chainOf_37 : decode cX1_chainOf 37 = .ok (.ldc_w 316, 3) := dk_19 1 60 (dk_at dksX1_chainOf_1 14 rfl rfl)
theorem dX1_chainOf_40 : decode cX1_chainOf 40 = .ok (.goto 6, 3) := dk_167 0 6 (dk_at dksX1_chainOf_1 17 rfl rfl)
theorem dX1_chainOf_43 : decode cX1_chainOf 43 = .ok (.ldc_w 318, 3) := dk_19 1 62 (dk_at dksX1_chainOf_1 20 rfl rfl)
theorem dX1_chainOf_46 : decode cX1_chainOf 46 = .ok (.invokevirtual 320, 3) := dk_182 1 64 (dk_at dksX1_chainOf_2 0 rfl rfl)
theorem dX1_chainOf_49 : decode cX1_chainOf 49 = .ok (.pop, 1) := dk_87 (dk_at dksX1_chainOf_2 3 rfl rfl)
theorem dX1_chainOf_50 : decode cX1_chainOf 50 = .ok (.aload_n 0, 1) := dk_42 (dk_at dksX1_chainOf_2 4 rfl rfl)
theorem dX1_chainOf_51 : decode cX1_chainOf 51 = .ok (.getfield 195, 3) := dk_180 0 195 (dk_at dksX1_chainOf_2 5 rfl rfl)
theorem dX1_chainOf_54 : decode cX1_chainOf 54 = .ok (.iload_n 2, 1) := dk_28 (dk_at dksX1_chainOf_2 8 rfl rfl)
theorem dX1_chainOf_55 : decode cX1_chainOf 55 = .ok (.invokevirtual 13, 3) := dk_182 0 13 (dk_at dksX1_chainOf_2 9 rfl rfl)
theorem dX1_chainOf_58 : decode cX1_chainOf 58 = .ok (.checkcast 2, 3) := dk_192 0 2 (dk_at dksX1_chainOf_2 12 rfl rfl)
theorem dX1_chainOf_61 : decode cX1_chainOf 61 = .ok (.getfield 1, 3) := dk_180 0 1 (dk_at dksX1_chainOf_2 15 rfl rfl)
theorem dX1_chainOf_64 : decode cX1_chainOf 64 = .ok (.astore_n 3, 1) := dk_78 (dk_at dksX1_chainOf_2 18 rfl rfl)
theorem dX1_chainOf_65 : decode cX1_chainOf 65 = .ok (.iconst 0, 1) := dk_3 (dk_at dksX1_chainOf_2 19 rfl rfl)
theorem dX1_chainOf_66 : decode cX1_chainOf 66 = .ok (.istore 4, 2) := dk_54 4 (dk_at dksX1_chainOf_2 20 rfl rfl)
theorem dX1_chainOf_68 : decode cX1_chainOf 68 = .ok (.iload 4, 2) := dk_21 4 (dk_at dksX1_chainOf_2 22 rfl rfl)
theorem dX1_chainOf_70 : decode cX1_chainOf 70 = .ok (.aload_n 3, 1) := dk_45 (dk_at dksX1_chainOf_3 0 rfl rfl)
theorem dX1_chainOf_71 : decode cX1_chainOf 71 = .ok (.invokevirtual 7, 3) := dk_182 0 7 (dk_at dksX1_chainOf_3 1 rfl rfl)
theorem dX1_chainOf_74 : decode cX1_chainOf 74 = .ok (.if_icmp .ge 43, 3) := dk_162 0 43 (dk_at dksX1_chainOf_3 4 rfl rfl)
theorem dX1_chainOf_77 : decode cX1_chainOf 77 = .ok (.aload_n 1, 1) := dk_43 (dk_at dksX1_chainOf_3 7 rfl rfl)
theorem dX1_chainOf_78 : decode cX1_chainOf 78 = .ok (.iload 4, 2) := dk_21 4 (dk_at dksX1_chainOf_3 8 rfl rfl)
theorem dX1_chainOf_80 : decode cX1_chainOf 80 = .ok (.ifCond .ne 9, 3) := dk_154 0 9 (dk_at dksX1_chainOf_3 10 rfl rfl)
theorem dX1_chainOf_83 : decode cX1_chainOf 83 = .ok (.ldc_w 316, 3) := dk_19 1 60 (dk_at dksX1_chainOf_3 13 rfl rfl)
theorem dX1_chainOf_86 : decode cX1_chainOf 86 = .ok (.goto 6, 3) := dk_167 0 6 (dk_at dksX1_chainOf_3 16 rfl rfl)
theorem dX1_chainOf_89 : decode cX1_chainOf 89 = .ok (.ldc_w 324, 3) := dk_19 1 68 (dk_at dksX1_chainOf_3 19 rfl rfl)
theorem dX1_chainOf_92 : decode cX1_chainOf 92 = .ok (.invokevirtual 320, 3) := dk_182 1 64 (dk_at dksX1_chainOf_4 0 rfl rfl)
theorem dX1_chainOf_95 : decode cX1_chainOf 95 = .ok (.aload_n 3, 1) := dk_45 (dk_at dksX1_chainOf_4 3 rfl rfl)
theorem dX1_chainOf_96 : decode cX1_chainOf 96 = .ok (.iload 4, 2) := dk_21 4 (dk_at dksX1_chainOf_4 4 rfl rfl)
theorem dX1_chainOf_98 : decode cX1_chainOf 98 = .ok (.invokevirtual 13, 3) := dk_182 0 13 (dk_at dksX1_chainOf_4 6 rfl rfl)
theorem dX1_chainOf_101 : decode cX1_chainOf 101 = .ok (.checkcast 17, 3) := dk_192 0 17 (dk_at dksX1_chainOf_4 9 rfl rfl)
theorem dX1_chainOf_104 : decode cX1_chainOf 104 = .ok (.getfield 19, 3) := dk_180 0 19 (dk_at dksX1_chainOf_4 12 rfl rfl)
theorem dX1_chainOf_107 : decode cX1_chainOf 107 = .ok (.invokevirtual 326, 3) := dk_182 1 70 (dk_at dksX1_chainOf_4 15 rfl rfl)
theorem dX1_chainOf_110 : decode cX1_chainOf 110 = .ok (.pop, 1) := dk_87 (dk_at dksX1_chainOf_4 18 rfl rfl)
theorem dX1_chainOf_111 : decode cX1_chainOf 111 = .ok (.iinc 4 1, 3) := dk_132 4 1 (dk_at dksX1_chainOf_4 19 rfl rfl)
theorem dX1_chainOf_114 : decode cX1_chainOf 114 = .ok (.goto (-46), 3) := dk_167 255 210 (dk_at dksX1_chainOf_5 0 rfl rfl)
theorem dX1_chainOf_117 : decode cX1_chainOf 117 = .ok (.iinc 2 1, 3) := dk_132 2 1 (dk_at dksX1_chainOf_5 3 rfl rfl)
theorem dX1_chainOf_120 : decode cX1_chainOf 120 = .ok (.goto (-99), 3) := dk_167 255 157 (dk_at dksX1_chainOf_5 6 rfl rfl)
theorem dX1_chainOf_123 : decode cX1_chainOf 123 = .ok (.aload_n 1, 1) := dk_43 (dk_at dksX1_chainOf_5 9 rfl rfl)
theorem dX1_chainOf_124 : decode cX1_chainOf 124 = .ok (.invokevirtual 329, 3) := dk_182 1 73 (dk_at dksX1_chainOf_5 10 rfl rfl)
theorem dX1_chainOf_127 : decode cX1_chainOf 127 = .ok (.areturn, 1) := dk_176 (dk_at dksX1_chainOf_5 13 rfl rfl)
abbrev cX1_markNow : ByteArray := prog_1_method_48_code
def yX1_markNow : MethodName := ⟨RX1, "markNow", "(I)I"⟩
def dkwX1_markNow_0 : List UInt8 := [42, 180, 0, 57, 27, 51, 153, 0, 12, 42, 180, 0, 61, 27, 46, 167, 0, 4, 2, 172]
abbrev dktX1_markNow_0 : List UInt8 := dkwX1_markNow_0 ++ []
theorem dksX1_markNow_0 : cX1_markNow.data.toList.drop 0 = dktX1_markNow_0 := by decide +kernel
theorem dX1_markNow_0 : decode cX1_markNow 0 = .ok (.aload_n 0, 1) := dk_42 (dk_at dksX1_markNow_0 0 rfl rfl)
theorem dX1_markNow_1 : decode cX1_markNow 1 = .ok (.getfield 57, 3) := dk_180 0 57 (dk_at dksX1_markNow_0 1 rfl rfl)
theorem dX1_markNow_4 : decode cX1_markNow 4 = .ok (.iload_n 1, 1) := dk_27 (dk_at dksX1_markNow_0 4 rfl rfl)
theorem dX1_markNow_5 : decode cX1_markNow 5 = .ok (.baload, 1) := dk_51 (dk_at dksX1_markNow_0 5 rfl rfl)
theorem dX1_markNow_6 : decode cX1_markNow 6 = .ok (.ifCond .eq 12, 3) := dk_153 0 12 (dk_at dksX1_markNow_0 6 rfl rfl)
theorem dX1_markNow_9 : decode cX1_markNow 9 = .ok (.aload_n 0, 1) := dk_42 (dk_at dksX1_markNow_0 9 rfl rfl)
theorem dX1_markNow_10 : decode cX1_markNow 10 = .ok (.getfield 61, 3) := dk_180 0 61 (dk_at dksX1_markNow_0 10 rfl rfl)
theorem dX1_markNow_13 : decode cX1_markNow 13 = .ok (.iload_n 1, 1) := dk_27 (dk_at dksX1_markNow_0 13 rfl rfl)
theorem dX1_markNow_14 : decode cX1_markNow 14 = .ok (.iaload, 1) := dk_46 (dk_at dksX1_markNow_0 14 rfl rfl)
theorem dX1_markNow_15 : decode cX1_markNow 15 = .ok (.goto 4, 3) := dk_167 0 4 (dk_at dksX1_markNow_0 15 rfl rfl)
theorem dX1_markNow_18 : decode cX1_markNow 18 = .ok (.iconst (-1), 1) := dk_2 (dk_at dksX1_markNow_0 18 rfl rfl)
theorem dX1_markNow_19 : decode cX1_markNow 19 = .ok (.ireturn, 1) := dk_172 (dk_at dksX1_markNow_0 19 rfl rfl)
abbrev cX1_ofClientNow : ByteArray := prog_1_method_50_code
def yX1_ofClientNow : MethodName := ⟨RX1, "ofClientNow", "(LSplitpointer$Client;I)I"⟩
def dkwX1_ofClientNow_1 : List UInt8 := [180, 0, 39, 180, 0, 82, 182, 0, 7, 43, 182, 1, 90, 100, 172]
abbrev dktX1_ofClientNow_1 : List UInt8 := dkwX1_ofClientNow_1 ++ []
def dkwX1_ofClientNow_0 : List UInt8 := [28, 154, 0, 10, 43, 180, 1, 88, 167, 0, 30, 28, 4, 160, 0, 10, 43, 180, 1, 89, 167, 0, 18, 42]
abbrev dktX1_ofClientNow_0 : List UInt8 := dkwX1_ofClientNow_0 ++ dktX1_ofClientNow_1
theorem dksX1_ofClientNow_0 : cX1_ofClientNow.data.toList.drop 0 = dktX1_ofClientNow_0 := by decide +kernel
theorem dksX1_ofClientNow_1 : cX1_ofClientNow.data.toList.drop 24 = dktX1_ofClientNow_1 := dk_seg dksX1_ofClientNow_0 24 rfl rfl
theorem dX1_ofClientNow_0 : decode cX1_ofClientNow 0 = .ok (.iload_n 2, 1) := dk_28 (dk_at dksX1_ofClientNow_0 0 rfl rfl)
theorem dX1_ofClientNow_1 : decode cX1_ofClientNow 1 = .ok (.ifCond .ne 10, 3) := dk_154 0 10 (dk_at dksX1_ofClientNow_0 1 rfl rfl)
theorem dX1_ofClientNow_4 : decode cX1_ofClientNow 4 = .ok (.aload_n 1, 1) := dk_43 (dk_at dksX1_ofClientNow_0 4 rfl rfl)
theorem dX1_ofClientNow_5 : decode cX1_ofClientNow 5 = .ok (.getfield 344, 3) := dk_180 1 88 (dk_at dksX1_ofClientNow_0 5 rfl rfl)
theorem dX1_ofClientNow_8 : decode cX1_ofClientNow 8 = .ok (.goto 30, 3) := dk_167 0 30 (dk_at dksX1_ofClientNow_0 8 rfl rfl)
theorem dX1_ofClientNow_11 : decode cX1_ofClientNow 11 = .ok (.iload_n 2, 1) := dk_28 (dk_at dksX1_ofClientNow_0 11 rfl rfl)
theorem dX1_ofClientNow_12 : decode cX1_ofClientNow 12 = .ok (.iconst 1, 1) := dk_4 (dk_at dksX1_ofClientNow_0 12 rfl rfl)
theorem dX1_ofClientNow_13 : decode cX1_ofClientNow 13 = .ok (.if_icmp .ne 10, 3) := dk_160 0 10 (dk_at dksX1_ofClientNow_0 13 rfl rfl)
theorem dX1_ofClientNow_16 : decode cX1_ofClientNow 16 = .ok (.aload_n 1, 1) := dk_43 (dk_at dksX1_ofClientNow_0 16 rfl rfl)
theorem dX1_ofClientNow_17 : decode cX1_ofClientNow 17 = .ok (.getfield 345, 3) := dk_180 1 89 (dk_at dksX1_ofClientNow_0 17 rfl rfl)
theorem dX1_ofClientNow_20 : decode cX1_ofClientNow 20 = .ok (.goto 18, 3) := dk_167 0 18 (dk_at dksX1_ofClientNow_0 20 rfl rfl)
theorem dX1_ofClientNow_23 : decode cX1_ofClientNow 23 = .ok (.aload_n 0, 1) := dk_42 (dk_at dksX1_ofClientNow_0 23 rfl rfl)
theorem dX1_ofClientNow_24 : decode cX1_ofClientNow 24 = .ok (.getfield 39, 3) := dk_180 0 39 (dk_at dksX1_ofClientNow_1 0 rfl rfl)
theorem dX1_ofClientNow_27 : decode cX1_ofClientNow 27 = .ok (.getfield 82, 3) := dk_180 0 82 (dk_at dksX1_ofClientNow_1 3 rfl rfl)
theorem dX1_ofClientNow_30 : decode cX1_ofClientNow 30 = .ok (.invokevirtual 7, 3) := dk_182 0 7 (dk_at dksX1_ofClientNow_1 6 rfl rfl)
theorem dX1_ofClientNow_33 : decode cX1_ofClientNow 33 = .ok (.aload_n 1, 1) := dk_43 (dk_at dksX1_ofClientNow_1 9 rfl rfl)
theorem dX1_ofClientNow_34 : decode cX1_ofClientNow 34 = .ok (.invokevirtual 346, 3) := dk_182 1 90 (dk_at dksX1_ofClientNow_1 10 rfl rfl)
theorem dX1_ofClientNow_37 : decode cX1_ofClientNow 37 = .ok (.isub, 1) := dk_100 (dk_at dksX1_ofClientNow_1 13 rfl rfl)
theorem dX1_ofClientNow_38 : decode cX1_ofClientNow 38 = .ok (.ireturn, 1) := dk_172 (dk_at dksX1_ofClientNow_1 14 rfl rfl)
abbrev cX1_crashedNow : ByteArray := prog_1_method_56_code
def yX1_crashedNow : MethodName := ⟨RX1, "crashedNow", "(I)I"⟩
def dkwX1_crashedNow_1 : List UInt8 := [27, 182, 0, 157, 78, 45, 199, 0, 7, 2, 167, 0, 7, 45, 180, 0, 162, 172]
abbrev dktX1_crashedNow_1 : List UInt8 := dkwX1_crashedNow_1 ++ []
def dkwX1_crashedNow_0 : List UInt8 := [42, 182, 0, 237, 77, 27, 2, 160, 0, 16, 44, 180, 0, 135, 42, 180, 0, 39, 180, 0, 135, 100, 172, 44]
abbrev dktX1_crashedNow_0 : List UInt8 := dkwX1_crashedNow_0 ++ dktX1_crashedNow_1
theorem dksX1_crashedNow_0 : cX1_crashedNow.data.toList.drop 0 = dktX1_crashedNow_0 := by decide +kernel
theorem dksX1_crashedNow_1 : cX1_crashedNow.data.toList.drop 24 = dktX1_crashedNow_1 := dk_seg dksX1_crashedNow_0 24 rfl rfl
theorem dX1_crashedNow_0 : decode cX1_crashedNow 0 = .ok (.aload_n 0, 1) := dk_42 (dk_at dksX1_crashedNow_0 0 rfl rfl)
theorem dX1_crashedNow_1 : decode cX1_crashedNow 1 = .ok (.invokevirtual 237, 3) := dk_182 0 237 (dk_at dksX1_crashedNow_0 1 rfl rfl)
theorem dX1_crashedNow_4 : decode cX1_crashedNow 4 = .ok (.astore_n 2, 1) := dk_77 (dk_at dksX1_crashedNow_0 4 rfl rfl)
theorem dX1_crashedNow_5 : decode cX1_crashedNow 5 = .ok (.iload_n 1, 1) := dk_27 (dk_at dksX1_crashedNow_0 5 rfl rfl)
theorem dX1_crashedNow_6 : decode cX1_crashedNow 6 = .ok (.iconst (-1), 1) := dk_2 (dk_at dksX1_crashedNow_0 6 rfl rfl)
theorem dX1_crashedNow_7 : decode cX1_crashedNow 7 = .ok (.if_icmp .ne 16, 3) := dk_160 0 16 (dk_at dksX1_crashedNow_0 7 rfl rfl)
theorem dX1_crashedNow_10 : decode cX1_crashedNow 10 = .ok (.aload_n 2, 1) := dk_44 (dk_at dksX1_crashedNow_0 10 rfl rfl)
theorem dX1_crashedNow_11 : decode cX1_crashedNow 11 = .ok (.getfield 135, 3) := dk_180 0 135 (dk_at dksX1_crashedNow_0 11 rfl rfl)
theorem dX1_crashedNow_14 : decode cX1_crashedNow 14 = .ok (.aload_n 0, 1) := dk_42 (dk_at dksX1_crashedNow_0 14 rfl rfl)
theorem dX1_crashedNow_15 : decode cX1_crashedNow 15 = .ok (.getfield 39, 3) := dk_180 0 39 (dk_at dksX1_crashedNow_0 15 rfl rfl)
theorem dX1_crashedNow_18 : decode cX1_crashedNow 18 = .ok (.getfield 135, 3) := dk_180 0 135 (dk_at dksX1_crashedNow_0 18 rfl rfl)
theorem dX1_crashedNow_21 : decode cX1_crashedNow 21 = .ok (.isub, 1) := dk_100 (dk_at dksX1_crashedNow_0 21 rfl rfl)
theorem dX1_crashedNow_22 : decode cX1_crashedNow 22 = .ok (.ireturn, 1) := dk_172 (dk_at dksX1_crashedNow_0 22 rfl rfl)
theorem dX1_crashedNow_23 : decode cX1_crashedNow 23 = .ok (.aload_n 2, 1) := dk_44 (dk_at dksX1_crashedNow_0 23 rfl rfl)
theorem dX1_crashedNow_24 : decode cX1_crashedNow 24 = .ok (.iload_n 1, 1) := dk_27 (dk_at dksX1_crashedNow_1 0 rfl rfl)
theorem dX1_crashedNow_25 : decode cX1_crashedNow 25 = .ok (.invokevirtual 157, 3) := dk_182 0 157 (dk_at dksX1_crashedNow_1 1 rfl rfl)
theorem dX1_crashedNow_28 : decode cX1_crashedNow 28 = .ok (.astore_n 3, 1) := dk_78 (dk_at dksX1_crashedNow_1 4 rfl rfl)
theorem dX1_crashedNow_29 : decode cX1_crashedNow 29 = .ok (.aload_n 3, 1) := dk_45 (dk_at dksX1_crashedNow_1 5 rfl rfl)
theorem dX1_crashedNow_30 : decode cX1_crashedNow 30 = .ok (.ifnonnull 7, 3) := dk_199 0 7 (dk_at dksX1_crashedNow_1 6 rfl rfl)
theorem dX1_crashedNow_33 : decode cX1_crashedNow 33 = .ok (.iconst (-1), 1) := dk_2 (dk_at dksX1_crashedNow_1 9 rfl rfl)
theorem dX1_crashedNow_34 : decode cX1_crashedNow 34 = .ok (.goto 7, 3) := dk_167 0 7 (dk_at dksX1_crashedNow_1 10 rfl rfl)
theorem dX1_crashedNow_37 : decode cX1_crashedNow 37 = .ok (.aload_n 3, 1) := dk_45 (dk_at dksX1_crashedNow_1 13 rfl rfl)
theorem dX1_crashedNow_38 : decode cX1_crashedNow 38 = .ok (.getfield 162, 3) := dk_180 0 162 (dk_at dksX1_crashedNow_1 14 rfl rfl)
theorem dX1_crashedNow_41 : decode cX1_crashedNow 41 = .ok (.ireturn, 1) := dk_172 (dk_at dksX1_crashedNow_1 17 rfl rfl)
abbrev cX1_found : ByteArray := prog_1_method_22_code
def yX1_found : MethodName := ⟨RX1, "found", "(II)I"⟩
def dkwX1_found_3 : List UInt8 := [180, 0, 53, 21, 4, 50, 3, 3, 182, 0, 140, 132, 4, 1, 167, 255, 235, 29, 172]
abbrev dktX1_found_3 : List UInt8 := dkwX1_found_3 ++ []
def dkwX1_found_2 : List UInt8 := [183, 0, 36, 181, 0, 39, 42, 182, 0, 100, 42, 182, 0, 137, 3, 54, 4, 21, 4, 6, 162, 0, 21, 42]
abbrev dktX1_found_2 : List UInt8 := dkwX1_found_2 ++ dktX1_found_3
def dkwX1_found_1 : List UInt8 := [184, 0, 78, 42, 180, 0, 39, 180, 0, 135, 62, 42, 28, 181, 0, 31, 42, 187, 0, 34, 89, 27]
abbrev dktX1_found_1 : List UInt8 := dkwX1_found_1 ++ dktX1_found_2
def dkwX1_found_0 : List UInt8 := [27, 5, 7, 184, 0, 74, 153, 0, 17, 28, 4, 16, 8, 184, 0, 74, 153, 0, 7, 4, 167, 0, 4, 3]
abbrev dktX1_found_0 : List UInt8 := dkwX1_found_0 ++ dktX1_found_1
theorem dksX1_found_0 : cX1_found.data.toList.drop 0 = dktX1_found_0 := by decide +kernel
theorem dksX1_found_1 : cX1_found.data.toList.drop 24 = dktX1_found_1 := dk_seg dksX1_found_0 24 rfl rfl
theorem dksX1_found_2 : cX1_found.data.toList.drop 46 = dktX1_found_2 := dk_seg dksX1_found_1 22 rfl rfl
theorem dksX1_found_3 : cX1_found.data.toList.drop 70 = dktX1_found_3 := dk_seg dksX1_found_2 24 rfl rfl
theorem dX1_found_0 : decode cX1_found 0 = .ok (.iload_n 1, 1) := dk_27 (dk_at dksX1_found_0 0 rfl rfl)
theorem dX1_found_1 : decode cX1_found 1 = .ok (.iconst 2, 1) := dk_5 (dk_at dksX1_found_0 1 rfl rfl)
theorem dX1_found_2 : decode cX1_found 2 = .ok (.iconst 4, 1) := dk_7 (dk_at dksX1_found_0 2 rfl rfl)
theorem dX1_found_3 : decode cX1_found 3 = .ok (.invokestatic 74, 3) := dk_184 0 74 (dk_at dksX1_found_0 3 rfl rfl)
theorem dX1_found_6 : decode cX1_found 6 = .ok (.ifCond .eq 17, 3) := dk_153 0 17 (dk_at dksX1_found_0 6 rfl rfl)
theorem dX1_found_9 : decode cX1_found 9 = .ok (.iload_n 2, 1) := dk_28 (dk_at dksX1_found_0 9 rfl rfl)
theorem dX1_found_10 : decode cX1_found 10 = .ok (.iconst 1, 1) := dk_4 (dk_at dksX1_found_0 10 rfl rfl)
theorem dX1_found_11 : decode cX1_found 11 = .ok (.bipush 8, 2) := dk_16 8 (dk_at dksX1_found_0 11 rfl rfl)
theorem dX1_found_13 : decode cX1_found 13 = .ok (.invokestatic 74, 3) := dk_184 0 74 (dk_at dksX1_found_0 13 rfl rfl)
theorem dX1_found_16 : decode cX1_found 16 = .ok (.ifCond .eq 7, 3) := dk_153 0 7 (dk_at dksX1_found_0 16 rfl rfl)
theorem dX1_found_19 : decode cX1_found 19 = .ok (.iconst 1, 1) := dk_4 (dk_at dksX1_found_0 19 rfl rfl)
theorem dX1_found_20 : decode cX1_found 20 = .ok (.goto 4, 3) := dk_167 0 4 (dk_at dksX1_found_0 20 rfl rfl)
theorem dX1_found_23 : decode cX1_found 23 = .ok (.iconst 0, 1) := dk_3 (dk_at dksX1_found_0 23 rfl rfl)
theorem dX1_found_24 : decode cX1_found 24 = .ok (.invokestatic 78, 3) := dk_184 0 78 (dk_at dksX1_found_1 0 rfl rfl)
theorem dX1_found_27 : decode cX1_found 27 = .ok (.aload_n 0, 1) := dk_42 (dk_at dksX1_found_1 3 rfl rfl)
theorem dX1_found_28 : decode cX1_found 28 = .ok (.getfield 39, 3) := dk_180 0 39 (dk_at dksX1_found_1 4 rfl rfl)
theorem dX1_found_31 : decode cX1_found 31 = .ok (.getfield 135, 3) := dk_180 0 135 (dk_at dksX1_found_1 7 rfl rfl)
theorem dX1_found_34 : decode cX1_found 34 = .ok (.istore_n 3, 1) := dk_62 (dk_at dksX1_found_1 10 rfl rfl)
theorem dX1_found_35 : decode cX1_found 35 = .ok (.aload_n 0, 1) := dk_42 (dk_at dksX1_found_1 11 rfl rfl)
theorem dX1_found_36 : decode cX1_found 36 = .ok (.iload_n 2, 1) := dk_28 (dk_at dksX1_found_1 12 rfl rfl)
theorem dX1_found_37 : decode cX1_found 37 = .ok (.putfield 31, 3) := dk_181 0 31 (dk_at dksX1_found_1 13 rfl rfl)
theorem dX1_found_40 : decode cX1_found 40 = .ok (.aload_n 0, 1) := dk_42 (dk_at dksX1_found_1 16 rfl rfl)
theorem dX1_found_41 : decode cX1_found 41 = .ok (.new 34, 3) := dk_187 0 34 (dk_at dksX1_found_1 17 rfl rfl)
theorem dX1_found_44 : decode cX1_found 44 = .ok (.dup, 1) := dk_89 (dk_at dksX1_found_1 20 rfl rfl)
theorem dX1_found_45 : decode cX1_found 45 = .ok (.iload_n 1, 1) := dk_27 (dk_at dksX1_found_1 21 rfl rfl)
theorem dX1_found_46 : decode cX1_found 46 = .ok (.invokespecial 36, 3) := dk_183 0 36 (dk_at dksX1_found_2 0 rfl rfl)
theorem dX1_found_49 : decode cX1_found 49 = .ok (.putfield 39, 3) := dk_181 0 39 (dk_at dksX1_found_2 3 rfl rfl)
theorem dX1_found_52 : decode cX1_found 52 = .ok (.aload_n 0, 1) := dk_42 (dk_at dksX1_found_2 6 rfl rfl)
theorem dX1_found_53 : decode cX1_found 53 = .ok (.invokevirtual 100, 3) := dk_182 0 100 (dk_at dksX1_found_2 7 rfl rfl)
theorem dX1_found_56 : decode cX1_found 56 = .ok (.aload_n 0, 1) := dk_42 (dk_at dksX1_found_2 10 rfl rfl)
theorem dX1_found_57 : decode cX1_found 57 = .ok (.invokevirtual 137, 3) := dk_182 0 137 (dk_at dksX1_found_2 11 rfl rfl)
theorem dX1_found_60 : decode cX1_found 60 = .ok (.iconst 0, 1) := dk_3 (dk_at dksX1_found_2 14 rfl rfl)
theorem dX1_found_61 : decode cX1_found 61 = .ok (.istore 4, 2) := dk_54 4 (dk_at dksX1_found_2 15 rfl rfl)
theorem dX1_found_63 : decode cX1_found 63 = .ok (.iload 4, 2) := dk_21 4 (dk_at dksX1_found_2 17 rfl rfl)
theorem dX1_found_65 : decode cX1_found 65 = .ok (.iconst 3, 1) := dk_6 (dk_at dksX1_found_2 19 rfl rfl)
theorem dX1_found_66 : decode cX1_found 66 = .ok (.if_icmp .ge 21, 3) := dk_162 0 21 (dk_at dksX1_found_2 20 rfl rfl)
theorem dX1_found_69 : decode cX1_found 69 = .ok (.aload_n 0, 1) := dk_42 (dk_at dksX1_found_2 23 rfl rfl)
theorem dX1_found_70 : decode cX1_found 70 = .ok (.getfield 53, 3) := dk_180 0 53 (dk_at dksX1_found_3 0 rfl rfl)
theorem dX1_found_73 : decode cX1_found 73 = .ok (.iload 4, 2) := dk_21 4 (dk_at dksX1_found_3 3 rfl rfl)
theorem dX1_found_75 : decode cX1_found 75 = .ok (.aaload, 1) := dk_50 (dk_at dksX1_found_3 5 rfl rfl)
theorem dX1_found_76 : decode cX1_found 76 = .ok (.iconst 0, 1) := dk_3 (dk_at dksX1_found_3 6 rfl rfl)
theorem dX1_found_77 : decode cX1_found 77 = .ok (.iconst 0, 1) := dk_3 (dk_at dksX1_found_3 7 rfl rfl)
theorem dX1_found_78 : decode cX1_found 78 = .ok (.invokevirtual 140, 3) := dk_182 0 140 (dk_at dksX1_found_3 8 rfl rfl)
theorem dX1_found_81 : decode cX1_found 81 = .ok (.iinc 4 1, 3) := dk_132 4 1 (dk_at dksX1_found_3 11 rfl rfl)
theorem dX1_found_84 : decode cX1_found 84 = .ok (.goto (-21), 3) := dk_167 255 235 (dk_at dksX1_found_3 14 rfl rfl)
theorem dX1_found_87 : decode cX1_found 87 = .ok (.iload_n 3, 1) := dk_29 (dk_at dksX1_found_3 17 rfl rfl)
theorem dX1_found_88 : decode cX1_found 88 = .ok (.ireturn, 1) := dk_172 (dk_at dksX1_found_3 18 rfl rfl)
abbrev cX1_isIn : ByteArray := prog_1_method_1_code
def yX1_isIn : MethodName := ⟨RX1, "isIn", "(III)Z"⟩
def dkwX1_isIn_0 : List UInt8 := [26, 27, 161, 0, 12, 26, 28, 163, 0, 7, 4, 167, 0, 4, 3, 172]
abbrev dktX1_isIn_0 : List UInt8 := dkwX1_isIn_0 ++ []
theorem dksX1_isIn_0 : cX1_isIn.data.toList.drop 0 = dktX1_isIn_0 := by decide +kernel
theorem dX1_isIn_0 : decode cX1_isIn 0 = .ok (.iload_n 0, 1) := dk_26 (dk_at dksX1_isIn_0 0 rfl rfl)
theorem dX1_isIn_1 : decode cX1_isIn 1 = .ok (.iload_n 1, 1) := dk_27 (dk_at dksX1_isIn_0 1 rfl rfl)
theorem dX1_isIn_2 : decode cX1_isIn 2 = .ok (.if_icmp .lt 12, 3) := dk_161 0 12 (dk_at dksX1_isIn_0 2 rfl rfl)
theorem dX1_isIn_5 : decode cX1_isIn 5 = .ok (.iload_n 0, 1) := dk_26 (dk_at dksX1_isIn_0 5 rfl rfl)
theorem dX1_isIn_6 : decode cX1_isIn 6 = .ok (.iload_n 2, 1) := dk_28 (dk_at dksX1_isIn_0 6 rfl rfl)
theorem dX1_isIn_7 : decode cX1_isIn 7 = .ok (.if_icmp .gt 7, 3) := dk_163 0 7 (dk_at dksX1_isIn_0 7 rfl rfl)
theorem dX1_isIn_10 : decode cX1_isIn 10 = .ok (.iconst 1, 1) := dk_4 (dk_at dksX1_isIn_0 10 rfl rfl)
theorem dX1_isIn_11 : decode cX1_isIn 11 = .ok (.goto 4, 3) := dk_167 0 4 (dk_at dksX1_isIn_0 11 rfl rfl)
theorem dX1_isIn_14 : decode cX1_isIn 14 = .ok (.iconst 0, 1) := dk_3 (dk_at dksX1_isIn_0 14 rfl rfl)
theorem dX1_isIn_15 : decode cX1_isIn 15 = .ok (.ireturn, 1) := dk_172 (dk_at dksX1_isIn_0 15 rfl rfl)
abbrev cX1_mustFit : ByteArray := prog_1_method_8_code
def yX1_mustFit : MethodName := ⟨RX1, "mustFit", "(Z)V"⟩
def dkwX1_mustFit_0 : List UInt8 := [26, 154, 0, 11, 187, 0, 68, 89, 183, 0, 70, 191, 177]
abbrev dktX1_mustFit_0 : List UInt8 := dkwX1_mustFit_0 ++ []
theorem dksX1_mustFit_0 : cX1_mustFit.data.toList.drop 0 = dktX1_mustFit_0 := by decide +kernel
theorem dX1_mustFit_0 : decode cX1_mustFit 0 = .ok (.iload_n 0, 1) := dk_26 (dk_at dksX1_mustFit_0 0 rfl rfl)
theorem dX1_mustFit_1 : decode cX1_mustFit 1 = .ok (.ifCond .ne 11, 3) := dk_154 0 11 (dk_at dksX1_mustFit_0 1 rfl rfl)
theorem dX1_mustFit_4 : decode cX1_mustFit 4 = .ok (.new 68, 3) := dk_187 0 68 (dk_at dksX1_mustFit_0 4 rfl rfl)
theorem dX1_mustFit_7 : decode cX1_mustFit 7 = .ok (.dup, 1) := dk_89 (dk_at dksX1_mustFit_0 7 rfl rfl)
theorem dX1_mustFit_8 : decode cX1_mustFit 8 = .ok (.invokespecial 70, 3) := dk_183 0 70 (dk_at dksX1_mustFit_0 8 rfl rfl)
theorem dX1_mustFit_11 : decode cX1_mustFit 11 = .ok (.athrow, 1) := dk_191 (dk_at dksX1_mustFit_0 11 rfl rfl)
theorem dX1_mustFit_12 : decode cX1_mustFit 12 = .ok (.return_, 1) := dk_177 (dk_at dksX1_mustFit_0 12 rfl rfl)
abbrev cX1_bounds : ByteArray := prog_1_method_23_code
def yX1_bounds : MethodName := ⟨RX1, "bounds", "(II)I"⟩
def dkwX1_bounds_2 : List UInt8 := [180, 0, 39, 185, 0, 109, 2, 0, 42, 45, 182, 0, 151, 42, 180, 0, 39, 182, 0, 154, 172]
abbrev dktX1_bounds_2 : List UInt8 := dkwX1_bounds_2 ++ []
def dkwX1_bounds_1 : List UInt8 := [167, 0, 4, 3, 184, 0, 78, 42, 182, 0, 144, 187, 0, 147, 89, 27, 28, 183, 0, 149, 78, 45, 42]
abbrev dktX1_bounds_1 : List UInt8 := dkwX1_bounds_1 ++ dktX1_bounds_2
def dkwX1_bounds_0 : List UInt8 := [27, 3, 16, 40, 184, 0, 74, 153, 0, 18, 28, 16, 50, 16, 100, 184, 0, 74, 153, 0, 7, 4]
abbrev dktX1_bounds_0 : List UInt8 := dkwX1_bounds_0 ++ dktX1_bounds_1
theorem dksX1_bounds_0 : cX1_bounds.data.toList.drop 0 = dktX1_bounds_0 := by decide +kernel
theorem dksX1_bounds_1 : cX1_bounds.data.toList.drop 22 = dktX1_bounds_1 := dk_seg dksX1_bounds_0 22 rfl rfl
theorem dksX1_bounds_2 : cX1_bounds.data.toList.drop 45 = dktX1_bounds_2 := dk_seg dksX1_bounds_1 23 rfl rfl
theorem dX1_bounds_0 : decode cX1_bounds 0 = .ok (.iload_n 1, 1) := dk_27 (dk_at dksX1_bounds_0 0 rfl rfl)
theorem dX1_bounds_1 : decode cX1_bounds 1 = .ok (.iconst 0, 1) := dk_3 (dk_at dksX1_bounds_0 1 rfl rfl)
theorem dX1_bounds_2 : decode cX1_bounds 2 = .ok (.bipush 40, 2) := dk_16 40 (dk_at dksX1_bounds_0 2 rfl rfl)
theorem dX1_bounds_4 : decode cX1_bounds 4 = .ok (.invokestatic 74, 3) := dk_184 0 74 (dk_at dksX1_bounds_0 4 rfl rfl)
theorem dX1_bounds_7 : decode cX1_bounds 7 = .ok (.ifCond .eq 18, 3) := dk_153 0 18 (dk_at dksX1_bounds_0 7 rfl rfl)
theorem dX1_bounds_10 : decode cX1_bounds 10 = .ok (.iload_n 2, 1) := dk_28 (dk_at dksX1_bounds_0 10 rfl rfl)
theorem dX1_bounds_11 : decode cX1_bounds 11 = .ok (.bipush 50, 2) := dk_16 50 (dk_at dksX1_bounds_0 11 rfl rfl)
theorem dX1_bounds_13 : decode cX1_bounds 13 = .ok (.bipush 100, 2) := dk_16 100 (dk_at dksX1_bounds_0 13 rfl rfl)
theorem dX1_bounds_15 : decode cX1_bounds 15 = .ok (.invokestatic 74, 3) := dk_184 0 74 (dk_at dksX1_bounds_0 15 rfl rfl)
theorem dX1_bounds_18 : decode cX1_bounds 18 = .ok (.ifCond .eq 7, 3) := dk_153 0 7 (dk_at dksX1_bounds_0 18 rfl rfl)
theorem dX1_bounds_21 : decode cX1_bounds 21 = .ok (.iconst 1, 1) := dk_4 (dk_at dksX1_bounds_0 21 rfl rfl)
theorem dX1_bounds_22 : decode cX1_bounds 22 = .ok (.goto 4, 3) := dk_167 0 4 (dk_at dksX1_bounds_1 0 rfl rfl)
theorem dX1_bounds_25 : decode cX1_bounds 25 = .ok (.iconst 0, 1) := dk_3 (dk_at dksX1_bounds_1 3 rfl rfl)
theorem dX1_bounds_26 : decode cX1_bounds 26 = .ok (.invokestatic 78, 3) := dk_184 0 78 (dk_at dksX1_bounds_1 4 rfl rfl)
theorem dX1_bounds_29 : decode cX1_bounds 29 = .ok (.aload_n 0, 1) := dk_42 (dk_at dksX1_bounds_1 7 rfl rfl)
theorem dX1_bounds_30 : decode cX1_bounds 30 = .ok (.invokevirtual 144, 3) := dk_182 0 144 (dk_at dksX1_bounds_1 8 rfl rfl)
theorem dX1_bounds_33 : decode cX1_bounds 33 = .ok (.new 147, 3) := dk_187 0 147 (dk_at dksX1_bounds_1 11 rfl rfl)
theorem dX1_bounds_36 : decode cX1_bounds 36 = .ok (.dup, 1) := dk_89 (dk_at dksX1_bounds_1 14 rfl rfl)
theorem dX1_bounds_37 : decode cX1_bounds 37 = .ok (.iload_n 1, 1) := dk_27 (dk_at dksX1_bounds_1 15 rfl rfl)
theorem dX1_bounds_38 : decode cX1_bounds 38 = .ok (.iload_n 2, 1) := dk_28 (dk_at dksX1_bounds_1 16 rfl rfl)
theorem dX1_bounds_39 : decode cX1_bounds 39 = .ok (.invokespecial 149, 3) := dk_183 0 149 (dk_at dksX1_bounds_1 17 rfl rfl)
theorem dX1_bounds_42 : decode cX1_bounds 42 = .ok (.astore_n 3, 1) := dk_78 (dk_at dksX1_bounds_1 20 rfl rfl)
theorem dX1_bounds_43 : decode cX1_bounds 43 = .ok (.aload_n 3, 1) := dk_45 (dk_at dksX1_bounds_1 21 rfl rfl)
theorem dX1_bounds_44 : decode cX1_bounds 44 = .ok (.aload_n 0, 1) := dk_42 (dk_at dksX1_bounds_1 22 rfl rfl)
theorem dX1_bounds_45 : decode cX1_bounds 45 = .ok (.getfield 39, 3) := dk_180 0 39 (dk_at dksX1_bounds_2 0 rfl rfl)
theorem dX1_bounds_48 : decode cX1_bounds 48 = .ok (.invokeinterface 109 2, 5) := by decide +kernel
theorem dX1_bounds_53 : decode cX1_bounds 53 = .ok (.aload_n 0, 1) := dk_42 (dk_at dksX1_bounds_2 8 rfl rfl)
theorem dX1_bounds_54 : decode cX1_bounds 54 = .ok (.aload_n 3, 1) := dk_45 (dk_at dksX1_bounds_2 9 rfl rfl)
theorem dX1_bounds_55 : decode cX1_bounds 55 = .ok (.invokevirtual 151, 3) := dk_182 0 151 (dk_at dksX1_bounds_2 10 rfl rfl)
theorem dX1_bounds_58 : decode cX1_bounds 58 = .ok (.aload_n 0, 1) := dk_42 (dk_at dksX1_bounds_2 13 rfl rfl)
theorem dX1_bounds_59 : decode cX1_bounds 59 = .ok (.getfield 39, 3) := dk_180 0 39 (dk_at dksX1_bounds_2 14 rfl rfl)
theorem dX1_bounds_62 : decode cX1_bounds 62 = .ok (.invokevirtual 154, 3) := dk_182 0 154 (dk_at dksX1_bounds_2 17 rfl rfl)
theorem dX1_bounds_65 : decode cX1_bounds 65 = .ok (.ireturn, 1) := dk_172 (dk_at dksX1_bounds_2 20 rfl rfl)
abbrev cX1_makeRoom : ByteArray := prog_1_method_16_code
def yX1_makeRoom : MethodName := ⟨RX1, "makeRoom", "()V"⟩
def dkwX1_makeRoom_0 : List UInt8 := [42, 180, 0, 47, 182, 0, 7, 16, 60, 160, 0, 7, 42, 182, 0, 100, 177]
abbrev dktX1_makeRoom_0 : List UInt8 := dkwX1_makeRoom_0 ++ []
theorem dksX1_makeRoom_0 : cX1_makeRoom.data.toList.drop 0 = dktX1_makeRoom_0 := by decide +kernel
theorem dX1_makeRoom_0 : decode cX1_makeRoom 0 = .ok (.aload_n 0, 1) := dk_42 (dk_at dksX1_makeRoom_0 0 rfl rfl)
theorem dX1_makeRoom_1 : decode cX1_makeRoom 1 = .ok (.getfield 47, 3) := dk_180 0 47 (dk_at dksX1_makeRoom_0 1 rfl rfl)
theorem dX1_makeRoom_4 : decode cX1_makeRoom 4 = .ok (.invokevirtual 7, 3) := dk_182 0 7 (dk_at dksX1_makeRoom_0 4 rfl rfl)
theorem dX1_makeRoom_7 : decode cX1_makeRoom 7 = .ok (.bipush 60, 2) := dk_16 60 (dk_at dksX1_makeRoom_0 7 rfl rfl)
theorem dX1_makeRoom_9 : decode cX1_makeRoom 9 = .ok (.if_icmp .ne 7, 3) := dk_160 0 7 (dk_at dksX1_makeRoom_0 9 rfl rfl)
theorem dX1_makeRoom_12 : decode cX1_makeRoom 12 = .ok (.aload_n 0, 1) := dk_42 (dk_at dksX1_makeRoom_0 12 rfl rfl)
theorem dX1_makeRoom_13 : decode cX1_makeRoom 13 = .ok (.invokevirtual 100, 3) := dk_182 0 100 (dk_at dksX1_makeRoom_0 13 rfl rfl)
theorem dX1_makeRoom_16 : decode cX1_makeRoom 16 = .ok (.return_, 1) := dk_177 (dk_at dksX1_makeRoom_0 16 rfl rfl)
abbrev cX1_log : ByteArray := prog_1_method_17_code
def yX1_log : MethodName := ⟨RX1, "log", "(LSplitpointer$Act;)V"⟩
def dkwX1_log_1 : List UInt8 := [180, 0, 31, 161, 0, 14, 42, 42, 180, 0, 47, 182, 0, 7, 181, 0, 97, 177]
abbrev dktX1_log_1 : List UInt8 := dkwX1_log_1 ++ []
def dkwX1_log_0 : List UInt8 := [42, 180, 0, 47, 43, 182, 0, 103, 87, 42, 180, 0, 47, 182, 0, 7, 42, 180, 0, 97, 100, 42]
abbrev dktX1_log_0 : List UInt8 := dkwX1_log_0 ++ dktX1_log_1
theorem dksX1_log_0 : cX1_log.data.toList.drop 0 = dktX1_log_0 := by decide +kernel
theorem dksX1_log_1 : cX1_log.data.toList.drop 22 = dktX1_log_1 := dk_seg dksX1_log_0 22 rfl rfl
theorem dX1_log_0 : decode cX1_log 0 = .ok (.aload_n 0, 1) := dk_42 (dk_at dksX1_log_0 0 rfl rfl)
theorem dX1_log_1 : decode cX1_log 1 = .ok (.getfield 47, 3) := dk_180 0 47 (dk_at dksX1_log_0 1 rfl rfl)
theorem dX1_log_4 : decode cX1_log 4 = .ok (.aload_n 1, 1) := dk_43 (dk_at dksX1_log_0 4 rfl rfl)
theorem dX1_log_5 : decode cX1_log 5 = .ok (.invokevirtual 103, 3) := dk_182 0 103 (dk_at dksX1_log_0 5 rfl rfl)
theorem dX1_log_8 : decode cX1_log 8 = .ok (.pop, 1) := dk_87 (dk_at dksX1_log_0 8 rfl rfl)
theorem dX1_log_9 : decode cX1_log 9 = .ok (.aload_n 0, 1) := dk_42 (dk_at dksX1_log_0 9 rfl rfl)
theorem dX1_log_10 : decode cX1_log 10 = .ok (.getfield 47, 3) := dk_180 0 47 (dk_at dksX1_log_0 10 rfl rfl)
theorem dX1_log_13 : decode cX1_log 13 = .ok (.invokevirtual 7, 3) := dk_182 0 7 (dk_at dksX1_log_0 13 rfl rfl)
theorem dX1_log_16 : decode cX1_log 16 = .ok (.aload_n 0, 1) := dk_42 (dk_at dksX1_log_0 16 rfl rfl)
theorem dX1_log_17 : decode cX1_log 17 = .ok (.getfield 97, 3) := dk_180 0 97 (dk_at dksX1_log_0 17 rfl rfl)
theorem dX1_log_20 : decode cX1_log 20 = .ok (.isub, 1) := dk_100 (dk_at dksX1_log_0 20 rfl rfl)
theorem dX1_log_21 : decode cX1_log 21 = .ok (.aload_n 0, 1) := dk_42 (dk_at dksX1_log_0 21 rfl rfl)
theorem dX1_log_22 : decode cX1_log 22 = .ok (.getfield 31, 3) := dk_180 0 31 (dk_at dksX1_log_1 0 rfl rfl)
theorem dX1_log_25 : decode cX1_log 25 = .ok (.if_icmp .lt 14, 3) := dk_161 0 14 (dk_at dksX1_log_1 3 rfl rfl)
theorem dX1_log_28 : decode cX1_log 28 = .ok (.aload_n 0, 1) := dk_42 (dk_at dksX1_log_1 6 rfl rfl)
theorem dX1_log_29 : decode cX1_log 29 = .ok (.aload_n 0, 1) := dk_42 (dk_at dksX1_log_1 7 rfl rfl)
theorem dX1_log_30 : decode cX1_log 30 = .ok (.getfield 47, 3) := dk_180 0 47 (dk_at dksX1_log_1 8 rfl rfl)
theorem dX1_log_33 : decode cX1_log 33 = .ok (.invokevirtual 7, 3) := dk_182 0 7 (dk_at dksX1_log_1 11 rfl rfl)
theorem dX1_log_36 : decode cX1_log 36 = .ok (.putfield 97, 3) := dk_181 0 97 (dk_at dksX1_log_1 14 rfl rfl)
theorem dX1_log_39 : decode cX1_log 39 = .ok (.return_, 1) := dk_177 (dk_at dksX1_log_1 17 rfl rfl)
abbrev cX1_put : ByteArray := prog_1_method_24_code
def yX1_put : MethodName := ⟨RX1, "put", "(II)I"⟩
def dkwX1_put_4 : List UInt8 := [180, 0, 39, 185, 0, 109, 2, 0, 42, 25, 5, 182, 0, 151, 21, 4, 172]
abbrev dktX1_put_4 : List UInt8 := dkwX1_put_4 ++ []
def dkwX1_put_3 : List UInt8 := [45, 180, 0, 162, 54, 4, 42, 182, 0, 144, 187, 0, 165, 89, 27, 28, 183, 0, 167, 58, 5, 25, 5, 42]
abbrev dktX1_put_3 : List UInt8 := dkwX1_put_3 ++ dktX1_put_4
def dkwX1_put_2 : List UInt8 := [180, 0, 135, 16, 60, 162, 0, 7, 4, 167, 0, 4, 3, 184, 0, 159, 45, 199, 0, 7, 2, 167, 0, 7]
abbrev dktX1_put_2 : List UInt8 := dkwX1_put_2 ++ dktX1_put_3
def dkwX1_put_1 : List UInt8 := [167, 0, 4, 3, 184, 0, 78, 42, 180, 0, 39, 27, 182, 0, 157, 78, 45, 199, 0, 15, 42, 180, 0, 39]
abbrev dktX1_put_1 : List UInt8 := dkwX1_put_1 ++ dktX1_put_2
def dkwX1_put_0 : List UInt8 := [27, 3, 17, 39, 15, 184, 0, 74, 153, 0, 18, 28, 3, 17, 39, 15, 184, 0, 74, 153, 0, 7, 4]
abbrev dktX1_put_0 : List UInt8 := dkwX1_put_0 ++ dktX1_put_1
theorem dksX1_put_0 : cX1_put.data.toList.drop 0 = dktX1_put_0 := by decide +kernel
theorem dksX1_put_1 : cX1_put.data.toList.drop 23 = dktX1_put_1 := dk_seg dksX1_put_0 23 rfl rfl
theorem dksX1_put_2 : cX1_put.data.toList.drop 47 = dktX1_put_2 := dk_seg dksX1_put_1 24 rfl rfl
theorem dksX1_put_3 : cX1_put.data.toList.drop 71 = dktX1_put_3 := dk_seg dksX1_put_2 24 rfl rfl
theorem dksX1_put_4 : cX1_put.data.toList.drop 95 = dktX1_put_4 := dk_seg dksX1_put_3 24 rfl rfl
theorem dX1_put_0 : decode cX1_put 0 = .ok (.iload_n 1, 1) := dk_27 (dk_at dksX1_put_0 0 rfl rfl)
theorem dX1_put_1 : decode cX1_put 1 = .ok (.iconst 0, 1) := dk_3 (dk_at dksX1_put_0 1 rfl rfl)
theorem dX1_put_2 : decode cX1_put 2 = .ok (.sipush 9999, 3) := dk_17 39 15 (dk_at dksX1_put_0 2 rfl rfl)
theorem dX1_put_5 : decode cX1_put 5 = .ok (.invokestatic 74, 3) := dk_184 0 74 (dk_at dksX1_put_0 5 rfl rfl)
theorem dX1_put_8 : decode cX1_put 8 = .ok (.ifCond .eq 18, 3) := dk_153 0 18 (dk_at dksX1_put_0 8 rfl rfl)
theorem dX1_put_11 : decode cX1_put 11 = .ok (.iload_n 2, 1) := dk_28 (dk_at dksX1_put_0 11 rfl rfl)
theorem dX1_put_12 : decode cX1_put 12 = .ok (.iconst 0, 1) := dk_3 (dk_at dksX1_put_0 12 rfl rfl)
theorem dX1_put_13 : decode cX1_put 13 = .ok (.sipush 9999, 3) := dk_17 39 15 (dk_at dksX1_put_0 13 rfl rfl)
theorem dX1_put_16 : decode cX1_put 16 = .ok (.invokestatic 74, 3) := dk_184 0 74 (dk_at dksX1_put_0 16 rfl rfl)
theorem dX1_put_19 : decode cX1_put 19 = .ok (.ifCond .eq 7, 3) := dk_153 0 7 (dk_at dksX1_put_0 19 rfl rfl)
theorem dX1_put_22 : decode cX1_put 22 = .ok (.iconst 1, 1) := dk_4 (dk_at dksX1_put_0 22 rfl rfl)
theorem dX1_put_23 : decode cX1_put 23 = .ok (.goto 4, 3) := dk_167 0 4 (dk_at dksX1_put_1 0 rfl rfl)
theorem dX1_put_26 : decode cX1_put 26 = .ok (.iconst 0, 1) := dk_3 (dk_at dksX1_put_1 3 rfl rfl)
theorem dX1_put_27 : decode cX1_put 27 = .ok (.invokestatic 78, 3) := dk_184 0 78 (dk_at dksX1_put_1 4 rfl rfl)
theorem dX1_put_30 : decode cX1_put 30 = .ok (.aload_n 0, 1) := dk_42 (dk_at dksX1_put_1 7 rfl rfl)
theorem dX1_put_31 : decode cX1_put 31 = .ok (.getfield 39, 3) := dk_180 0 39 (dk_at dksX1_put_1 8 rfl rfl)
theorem dX1_put_34 : decode cX1_put 34 = .ok (.iload_n 1, 1) := dk_27 (dk_at dksX1_put_1 11 rfl rfl)
theorem dX1_put_35 : decode cX1_put 35 = .ok (.invokevirtual 157, 3) := dk_182 0 157 (dk_at dksX1_put_1 12 rfl rfl)
theorem dX1_put_38 : decode cX1_put 38 = .ok (.astore_n 3, 1) := dk_78 (dk_at dksX1_put_1 15 rfl rfl)
theorem dX1_put_39 : decode cX1_put 39 = .ok (.aload_n 3, 1) := dk_45 (dk_at dksX1_put_1 16 rfl rfl)
theorem dX1_put_40 : decode cX1_put 40 = .ok (.ifnonnull 15, 3) := dk_199 0 15 (dk_at dksX1_put_1 17 rfl rfl)
theorem dX1_put_43 : decode cX1_put 43 = .ok (.aload_n 0, 1) := dk_42 (dk_at dksX1_put_1 20 rfl rfl)
theorem dX1_put_44 : decode cX1_put 44 = .ok (.getfield 39, 3) := dk_180 0 39 (dk_at dksX1_put_1 21 rfl rfl)
theorem dX1_put_47 : decode cX1_put 47 = .ok (.getfield 135, 3) := dk_180 0 135 (dk_at dksX1_put_2 0 rfl rfl)
theorem dX1_put_50 : decode cX1_put 50 = .ok (.bipush 60, 2) := dk_16 60 (dk_at dksX1_put_2 3 rfl rfl)
theorem dX1_put_52 : decode cX1_put 52 = .ok (.if_icmp .ge 7, 3) := dk_162 0 7 (dk_at dksX1_put_2 5 rfl rfl)
theorem dX1_put_55 : decode cX1_put 55 = .ok (.iconst 1, 1) := dk_4 (dk_at dksX1_put_2 8 rfl rfl)
theorem dX1_put_56 : decode cX1_put 56 = .ok (.goto 4, 3) := dk_167 0 4 (dk_at dksX1_put_2 9 rfl rfl)
theorem dX1_put_59 : decode cX1_put 59 = .ok (.iconst 0, 1) := dk_3 (dk_at dksX1_put_2 12 rfl rfl)
theorem dX1_put_60 : decode cX1_put 60 = .ok (.invokestatic 159, 3) := dk_184 0 159 (dk_at dksX1_put_2 13 rfl rfl)
theorem dX1_put_63 : decode cX1_put 63 = .ok (.aload_n 3, 1) := dk_45 (dk_at dksX1_put_2 16 rfl rfl)
theorem dX1_put_64 : decode cX1_put 64 = .ok (.ifnonnull 7, 3) := dk_199 0 7 (dk_at dksX1_put_2 17 rfl rfl)
theorem dX1_put_67 : decode cX1_put 67 = .ok (.iconst (-1), 1) := dk_2 (dk_at dksX1_put_2 20 rfl rfl)
theorem dX1_put_68 : decode cX1_put 68 = .ok (.goto 7, 3) := dk_167 0 7 (dk_at dksX1_put_2 21 rfl rfl)
theorem dX1_put_71 : decode cX1_put 71 = .ok (.aload_n 3, 1) := dk_45 (dk_at dksX1_put_3 0 rfl rfl)
theorem dX1_put_72 : decode cX1_put 72 = .ok (.getfield 162, 3) := dk_180 0 162 (dk_at dksX1_put_3 1 rfl rfl)
theorem dX1_put_75 : decode cX1_put 75 = .ok (.istore 4, 2) := dk_54 4 (dk_at dksX1_put_3 4 rfl rfl)
theorem dX1_put_77 : decode cX1_put 77 = .ok (.aload_n 0, 1) := dk_42 (dk_at dksX1_put_3 6 rfl rfl)
theorem dX1_put_78 : decode cX1_put 78 = .ok (.invokevirtual 144, 3) := dk_182 0 144 (dk_at dksX1_put_3 7 rfl rfl)
theorem dX1_put_81 : decode cX1_put 81 = .ok (.new 165, 3) := dk_187 0 165 (dk_at dksX1_put_3 10 rfl rfl)
theorem dX1_put_84 : decode cX1_put 84 = .ok (.dup, 1) := dk_89 (dk_at dksX1_put_3 13 rfl rfl)
theorem dX1_put_85 : decode cX1_put 85 = .ok (.iload_n 1, 1) := dk_27 (dk_at dksX1_put_3 14 rfl rfl)
theorem dX1_put_86 : decode cX1_put 86 = .ok (.iload_n 2, 1) := dk_28 (dk_at dksX1_put_3 15 rfl rfl)
theorem dX1_put_87 : decode cX1_put 87 = .ok (.invokespecial 167, 3) := dk_183 0 167 (dk_at dksX1_put_3 16 rfl rfl)
theorem dX1_put_90 : decode cX1_put 90 = .ok (.astore 5, 2) := dk_58 5 (dk_at dksX1_put_3 19 rfl rfl)
theorem dX1_put_92 : decode cX1_put 92 = .ok (.aload 5, 2) := dk_25 5 (dk_at dksX1_put_3 21 rfl rfl)
theorem dX1_put_94 : decode cX1_put 94 = .ok (.aload_n 0, 1) := dk_42 (dk_at dksX1_put_3 23 rfl rfl)
theorem dX1_put_95 : decode cX1_put 95 = .ok (.getfield 39, 3) := dk_180 0 39 (dk_at dksX1_put_4 0 rfl rfl)
theorem dX1_put_98 : decode cX1_put 98 = .ok (.invokeinterface 109 2, 5) := by decide +kernel
theorem dX1_put_103 : decode cX1_put 103 = .ok (.aload_n 0, 1) := dk_42 (dk_at dksX1_put_4 8 rfl rfl)
theorem dX1_put_104 : decode cX1_put 104 = .ok (.aload 5, 2) := dk_25 5 (dk_at dksX1_put_4 9 rfl rfl)
theorem dX1_put_106 : decode cX1_put 106 = .ok (.invokevirtual 151, 3) := dk_182 0 151 (dk_at dksX1_put_4 11 rfl rfl)
theorem dX1_put_109 : decode cX1_put 109 = .ok (.iload 4, 2) := dk_21 4 (dk_at dksX1_put_4 14 rfl rfl)
theorem dX1_put_111 : decode cX1_put 111 = .ok (.ireturn, 1) := dk_172 (dk_at dksX1_put_4 16 rfl rfl)
abbrev cX1_mustStand : ByteArray := prog_1_method_9_code
def yX1_mustStand : MethodName := ⟨RX1, "mustStand", "(Z)V"⟩
def dkwX1_mustStand_0 : List UInt8 := [26, 154, 0, 11, 187, 0, 71, 89, 183, 0, 73, 191, 177]
abbrev dktX1_mustStand_0 : List UInt8 := dkwX1_mustStand_0 ++ []
theorem dksX1_mustStand_0 : cX1_mustStand.data.toList.drop 0 = dktX1_mustStand_0 := by decide +kernel
theorem dX1_mustStand_0 : decode cX1_mustStand 0 = .ok (.iload_n 0, 1) := dk_26 (dk_at dksX1_mustStand_0 0 rfl rfl)
theorem dX1_mustStand_1 : decode cX1_mustStand 1 = .ok (.ifCond .ne 11, 3) := dk_154 0 11 (dk_at dksX1_mustStand_0 1 rfl rfl)
theorem dX1_mustStand_4 : decode cX1_mustStand 4 = .ok (.new 71, 3) := dk_187 0 71 (dk_at dksX1_mustStand_0 4 rfl rfl)
theorem dX1_mustStand_7 : decode cX1_mustStand 7 = .ok (.dup, 1) := dk_89 (dk_at dksX1_mustStand_0 7 rfl rfl)
theorem dX1_mustStand_8 : decode cX1_mustStand 8 = .ok (.invokespecial 73, 3) := dk_183 0 73 (dk_at dksX1_mustStand_0 8 rfl rfl)
theorem dX1_mustStand_11 : decode cX1_mustStand 11 = .ok (.athrow, 1) := dk_191 (dk_at dksX1_mustStand_0 11 rfl rfl)
theorem dX1_mustStand_12 : decode cX1_mustStand 12 = .ok (.return_, 1) := dk_177 (dk_at dksX1_mustStand_0 12 rfl rfl)
abbrev cX1_drop : ByteArray := prog_1_method_25_code
def yX1_drop : MethodName := ⟨RX1, "drop", "(I)I"⟩
def dkwX1_drop_2 : List UInt8 := [185, 0, 109, 2, 0, 42, 25, 4, 182, 0, 151, 29, 172]
abbrev dktX1_drop_2 : List UInt8 := dkwX1_drop_2 ++ []
def dkwX1_drop_1 : List UInt8 := [42, 182, 0, 144, 187, 0, 171, 89, 27, 183, 0, 173, 58, 4, 25, 4, 42, 180, 0, 39]
abbrev dktX1_drop_1 : List UInt8 := dkwX1_drop_1 ++ dktX1_drop_2
def dkwX1_drop_0 : List UInt8 := [27, 184, 0, 168, 42, 180, 0, 39, 27, 182, 0, 157, 77, 44, 199, 0, 5, 2, 172, 44, 180, 0, 162, 62]
abbrev dktX1_drop_0 : List UInt8 := dkwX1_drop_0 ++ dktX1_drop_1
theorem dksX1_drop_0 : cX1_drop.data.toList.drop 0 = dktX1_drop_0 := by decide +kernel
theorem dksX1_drop_1 : cX1_drop.data.toList.drop 24 = dktX1_drop_1 := dk_seg dksX1_drop_0 24 rfl rfl
theorem dksX1_drop_2 : cX1_drop.data.toList.drop 44 = dktX1_drop_2 := dk_seg dksX1_drop_1 20 rfl rfl
theorem dX1_drop_0 : decode cX1_drop 0 = .ok (.iload_n 1, 1) := dk_27 (dk_at dksX1_drop_0 0 rfl rfl)
theorem dX1_drop_1 : decode cX1_drop 1 = .ok (.invokestatic 168, 3) := dk_184 0 168 (dk_at dksX1_drop_0 1 rfl rfl)
theorem dX1_drop_4 : decode cX1_drop 4 = .ok (.aload_n 0, 1) := dk_42 (dk_at dksX1_drop_0 4 rfl rfl)
theorem dX1_drop_5 : decode cX1_drop 5 = .ok (.getfield 39, 3) := dk_180 0 39 (dk_at dksX1_drop_0 5 rfl rfl)
theorem dX1_drop_8 : decode cX1_drop 8 = .ok (.iload_n 1, 1) := dk_27 (dk_at dksX1_drop_0 8 rfl rfl)
theorem dX1_drop_9 : decode cX1_drop 9 = .ok (.invokevirtual 157, 3) := dk_182 0 157 (dk_at dksX1_drop_0 9 rfl rfl)
theorem dX1_drop_12 : decode cX1_drop 12 = .ok (.astore_n 2, 1) := dk_77 (dk_at dksX1_drop_0 12 rfl rfl)
theorem dX1_drop_13 : decode cX1_drop 13 = .ok (.aload_n 2, 1) := dk_44 (dk_at dksX1_drop_0 13 rfl rfl)
theorem dX1_drop_14 : decode cX1_drop 14 = .ok (.ifnonnull 5, 3) := dk_199 0 5 (dk_at dksX1_drop_0 14 rfl rfl)
theorem dX1_drop_17 : decode cX1_drop 17 = .ok (.iconst (-1), 1) := dk_2 (dk_at dksX1_drop_0 17 rfl rfl)
theorem dX1_drop_18 : decode cX1_drop 18 = .ok (.ireturn, 1) := dk_172 (dk_at dksX1_drop_0 18 rfl rfl)
theorem dX1_drop_19 : decode cX1_drop 19 = .ok (.aload_n 2, 1) := dk_44 (dk_at dksX1_drop_0 19 rfl rfl)
theorem dX1_drop_20 : decode cX1_drop 20 = .ok (.getfield 162, 3) := dk_180 0 162 (dk_at dksX1_drop_0 20 rfl rfl)
theorem dX1_drop_23 : decode cX1_drop 23 = .ok (.istore_n 3, 1) := dk_62 (dk_at dksX1_drop_0 23 rfl rfl)
theorem dX1_drop_24 : decode cX1_drop 24 = .ok (.aload_n 0, 1) := dk_42 (dk_at dksX1_drop_1 0 rfl rfl)
theorem dX1_drop_25 : decode cX1_drop 25 = .ok (.invokevirtual 144, 3) := dk_182 0 144 (dk_at dksX1_drop_1 1 rfl rfl)
theorem dX1_drop_28 : decode cX1_drop 28 = .ok (.new 171, 3) := dk_187 0 171 (dk_at dksX1_drop_1 4 rfl rfl)
theorem dX1_drop_31 : decode cX1_drop 31 = .ok (.dup, 1) := dk_89 (dk_at dksX1_drop_1 7 rfl rfl)
theorem dX1_drop_32 : decode cX1_drop 32 = .ok (.iload_n 1, 1) := dk_27 (dk_at dksX1_drop_1 8 rfl rfl)
theorem dX1_drop_33 : decode cX1_drop 33 = .ok (.invokespecial 173, 3) := dk_183 0 173 (dk_at dksX1_drop_1 9 rfl rfl)
theorem dX1_drop_36 : decode cX1_drop 36 = .ok (.astore 4, 2) := dk_58 4 (dk_at dksX1_drop_1 12 rfl rfl)
theorem dX1_drop_38 : decode cX1_drop 38 = .ok (.aload 4, 2) := dk_25 4 (dk_at dksX1_drop_1 14 rfl rfl)
theorem dX1_drop_40 : decode cX1_drop 40 = .ok (.aload_n 0, 1) := dk_42 (dk_at dksX1_drop_1 16 rfl rfl)
theorem dX1_drop_41 : decode cX1_drop 41 = .ok (.getfield 39, 3) := dk_180 0 39 (dk_at dksX1_drop_1 17 rfl rfl)
theorem dX1_drop_44 : decode cX1_drop 44 = .ok (.invokeinterface 109 2, 5) := by decide +kernel
theorem dX1_drop_49 : decode cX1_drop 49 = .ok (.aload_n 0, 1) := dk_42 (dk_at dksX1_drop_2 5 rfl rfl)
theorem dX1_drop_50 : decode cX1_drop 50 = .ok (.aload 4, 2) := dk_25 4 (dk_at dksX1_drop_2 6 rfl rfl)
theorem dX1_drop_52 : decode cX1_drop 52 = .ok (.invokevirtual 151, 3) := dk_182 0 151 (dk_at dksX1_drop_2 8 rfl rfl)
theorem dX1_drop_55 : decode cX1_drop 55 = .ok (.iload_n 3, 1) := dk_29 (dk_at dksX1_drop_2 11 rfl rfl)
theorem dX1_drop_56 : decode cX1_drop 56 = .ok (.ireturn, 1) := dk_172 (dk_at dksX1_drop_2 12 rfl rfl)
abbrev cX1_mustBeKey : ByteArray := prog_1_method_10_code
def yX1_mustBeKey : MethodName := ⟨RX1, "mustBeKey", "(I)V"⟩
def dkwX1_mustBeKey_0 : List UInt8 := [26, 3, 17, 39, 15, 184, 0, 74, 184, 0, 78, 177]
abbrev dktX1_mustBeKey_0 : List UInt8 := dkwX1_mustBeKey_0 ++ []
theorem dksX1_mustBeKey_0 : cX1_mustBeKey.data.toList.drop 0 = dktX1_mustBeKey_0 := by decide +kernel
theorem dX1_mustBeKey_0 : decode cX1_mustBeKey 0 = .ok (.iload_n 0, 1) := dk_26 (dk_at dksX1_mustBeKey_0 0 rfl rfl)
theorem dX1_mustBeKey_1 : decode cX1_mustBeKey 1 = .ok (.iconst 0, 1) := dk_3 (dk_at dksX1_mustBeKey_0 1 rfl rfl)
theorem dX1_mustBeKey_2 : decode cX1_mustBeKey 2 = .ok (.sipush 9999, 3) := dk_17 39 15 (dk_at dksX1_mustBeKey_0 2 rfl rfl)
theorem dX1_mustBeKey_5 : decode cX1_mustBeKey 5 = .ok (.invokestatic 74, 3) := dk_184 0 74 (dk_at dksX1_mustBeKey_0 5 rfl rfl)
theorem dX1_mustBeKey_8 : decode cX1_mustBeKey 8 = .ok (.invokestatic 78, 3) := dk_184 0 78 (dk_at dksX1_mustBeKey_0 8 rfl rfl)
theorem dX1_mustBeKey_11 : decode cX1_mustBeKey 11 = .ok (.return_, 1) := dk_177 (dk_at dksX1_mustBeKey_0 11 rfl rfl)
abbrev cX1_rehash : ByteArray := prog_1_method_26_code
def yX1_rehash : MethodName := ⟨RX1, "rehash", "(II)I"⟩
def dkwX1_rehash_1 : List UInt8 := [185, 0, 109, 2, 0, 42, 45, 182, 0, 151, 42, 182, 0, 137, 42, 180, 0, 39, 182, 0, 180, 172]
abbrev dktX1_rehash_1 : List UInt8 := dkwX1_rehash_1 ++ []
def dkwX1_rehash_0 : List UInt8 := [27, 28, 184, 0, 174, 42, 182, 0, 144, 187, 0, 177, 89, 27, 28, 183, 0, 179, 78, 45, 42, 180, 0, 39]
abbrev dktX1_rehash_0 : List UInt8 := dkwX1_rehash_0 ++ dktX1_rehash_1
theorem dksX1_rehash_0 : cX1_rehash.data.toList.drop 0 = dktX1_rehash_0 := by decide +kernel
theorem dksX1_rehash_1 : cX1_rehash.data.toList.drop 24 = dktX1_rehash_1 := dk_seg dksX1_rehash_0 24 rfl rfl
theorem dX1_rehash_0 : decode cX1_rehash 0 = .ok (.iload_n 1, 1) := dk_27 (dk_at dksX1_rehash_0 0 rfl rfl)
theorem dX1_rehash_1 : decode cX1_rehash 1 = .ok (.iload_n 2, 1) := dk_28 (dk_at dksX1_rehash_0 1 rfl rfl)
theorem dX1_rehash_2 : decode cX1_rehash 2 = .ok (.invokestatic 174, 3) := dk_184 0 174 (dk_at dksX1_rehash_0 2 rfl rfl)
theorem dX1_rehash_5 : decode cX1_rehash 5 = .ok (.aload_n 0, 1) := dk_42 (dk_at dksX1_rehash_0 5 rfl rfl)
theorem dX1_rehash_6 : decode cX1_rehash 6 = .ok (.invokevirtual 144, 3) := dk_182 0 144 (dk_at dksX1_rehash_0 6 rfl rfl)
theorem dX1_rehash_9 : decode cX1_rehash 9 = .ok (.new 177, 3) := dk_187 0 177 (dk_at dksX1_rehash_0 9 rfl rfl)
theorem dX1_rehash_12 : decode cX1_rehash 12 = .ok (.dup, 1) := dk_89 (dk_at dksX1_rehash_0 12 rfl rfl)
theorem dX1_rehash_13 : decode cX1_rehash 13 = .ok (.iload_n 1, 1) := dk_27 (dk_at dksX1_rehash_0 13 rfl rfl)
theorem dX1_rehash_14 : decode cX1_rehash 14 = .ok (.iload_n 2, 1) := dk_28 (dk_at dksX1_rehash_0 14 rfl rfl)
theorem dX1_rehash_15 : decode cX1_rehash 15 = .ok (.invokespecial 179, 3) := dk_183 0 179 (dk_at dksX1_rehash_0 15 rfl rfl)
theorem dX1_rehash_18 : decode cX1_rehash 18 = .ok (.astore_n 3, 1) := dk_78 (dk_at dksX1_rehash_0 18 rfl rfl)
theorem dX1_rehash_19 : decode cX1_rehash 19 = .ok (.aload_n 3, 1) := dk_45 (dk_at dksX1_rehash_0 19 rfl rfl)
theorem dX1_rehash_20 : decode cX1_rehash 20 = .ok (.aload_n 0, 1) := dk_42 (dk_at dksX1_rehash_0 20 rfl rfl)
theorem dX1_rehash_21 : decode cX1_rehash 21 = .ok (.getfield 39, 3) := dk_180 0 39 (dk_at dksX1_rehash_0 21 rfl rfl)
theorem dX1_rehash_24 : decode cX1_rehash 24 = .ok (.invokeinterface 109 2, 5) := by decide +kernel
theorem dX1_rehash_29 : decode cX1_rehash 29 = .ok (.aload_n 0, 1) := dk_42 (dk_at dksX1_rehash_1 5 rfl rfl)
theorem dX1_rehash_30 : decode cX1_rehash 30 = .ok (.aload_n 3, 1) := dk_45 (dk_at dksX1_rehash_1 6 rfl rfl)
theorem dX1_rehash_31 : decode cX1_rehash 31 = .ok (.invokevirtual 151, 3) := dk_182 0 151 (dk_at dksX1_rehash_1 7 rfl rfl)
theorem dX1_rehash_34 : decode cX1_rehash 34 = .ok (.aload_n 0, 1) := dk_42 (dk_at dksX1_rehash_1 10 rfl rfl)
theorem dX1_rehash_35 : decode cX1_rehash 35 = .ok (.invokevirtual 137, 3) := dk_182 0 137 (dk_at dksX1_rehash_1 11 rfl rfl)
theorem dX1_rehash_38 : decode cX1_rehash 38 = .ok (.aload_n 0, 1) := dk_42 (dk_at dksX1_rehash_1 14 rfl rfl)
theorem dX1_rehash_39 : decode cX1_rehash 39 = .ok (.getfield 39, 3) := dk_180 0 39 (dk_at dksX1_rehash_1 15 rfl rfl)
theorem dX1_rehash_42 : decode cX1_rehash 42 = .ok (.invokevirtual 180, 3) := dk_182 0 180 (dk_at dksX1_rehash_1 18 rfl rfl)
theorem dX1_rehash_45 : decode cX1_rehash 45 = .ok (.ireturn, 1) := dk_172 (dk_at dksX1_rehash_1 21 rfl rfl)
abbrev cX1_mustBeHashing : ByteArray := prog_1_method_11_code
def yX1_mustBeHashing : MethodName := ⟨RX1, "mustBeHashing", "(II)V"⟩
def dkwX1_mustBeHashing_1 : List UInt8 := [167, 0, 4, 3, 184, 0, 78, 177]
abbrev dktX1_mustBeHashing_1 : List UInt8 := dkwX1_mustBeHashing_1 ++ []
def dkwX1_mustBeHashing_0 : List UInt8 := [26, 3, 17, 3, 255, 184, 0, 74, 153, 0, 17, 27, 3, 16, 9, 184, 0, 74, 153, 0, 7, 4]
abbrev dktX1_mustBeHashing_0 : List UInt8 := dkwX1_mustBeHashing_0 ++ dktX1_mustBeHashing_1
theorem dksX1_mustBeHashing_0 : cX1_mustBeHashing.data.toList.drop 0 = dktX1_mustBeHashing_0 := by decide +kernel
theorem dksX1_mustBeHashing_1 : cX1_mustBeHashing.data.toList.drop 22 = dktX1_mustBeHashing_1 := dk_seg dksX1_mustBeHashing_0 22 rfl rfl
theorem dX1_mustBeHashing_0 : decode cX1_mustBeHashing 0 = .ok (.iload_n 0, 1) := dk_26 (dk_at dksX1_mustBeHashing_0 0 rfl rfl)
theorem dX1_mustBeHashing_1 : decode cX1_mustBeHashing 1 = .ok (.iconst 0, 1) := dk_3 (dk_at dksX1_mustBeHashing_0 1 rfl rfl)
theorem dX1_mustBeHashing_2 : decode cX1_mustBeHashing 2 = .ok (.sipush 1023, 3) := dk_17 3 255 (dk_at dksX1_mustBeHashing_0 2 rfl rfl)
theorem dX1_mustBeHashing_5 : decode cX1_mustBeHashing 5 = .ok (.invokestatic 74, 3) := dk_184 0 74 (dk_at dksX1_mustBeHashing_0 5 rfl rfl)
theorem dX1_mustBeHashing_8 : decode cX1_mustBeHashing 8 = .ok (.ifCond .eq 17, 3) := dk_153 0 17 (dk_at dksX1_mustBeHashing_0 8 rfl rfl)
theorem dX1_mustBeHashing_11 : decode cX1_mustBeHashing 11 = .ok (.iload_n 1, 1) := dk_27 (dk_at dksX1_mustBeHashing_0 11 rfl rfl)
theorem dX1_mustBeHashing_12 : decode cX1_mustBeHashing 12 = .ok (.iconst 0, 1) := dk_3 (dk_at dksX1_mustBeHashing_0 12 rfl rfl)
theorem dX1_mustBeHashing_13 : decode cX1_mustBeHashing 13 = .ok (.bipush 9, 2) := dk_16 9 (dk_at dksX1_mustBeHashing_0 13 rfl rfl)
theorem dX1_mustBeHashing_15 : decode cX1_mustBeHashing 15 = .ok (.invokestatic 74, 3) := dk_184 0 74 (dk_at dksX1_mustBeHashing_0 15 rfl rfl)
theorem dX1_mustBeHashing_18 : decode cX1_mustBeHashing 18 = .ok (.ifCond .eq 7, 3) := dk_153 0 7 (dk_at dksX1_mustBeHashing_0 18 rfl rfl)
theorem dX1_mustBeHashing_21 : decode cX1_mustBeHashing 21 = .ok (.iconst 1, 1) := dk_4 (dk_at dksX1_mustBeHashing_0 21 rfl rfl)
theorem dX1_mustBeHashing_22 : decode cX1_mustBeHashing 22 = .ok (.goto 4, 3) := dk_167 0 4 (dk_at dksX1_mustBeHashing_1 0 rfl rfl)
theorem dX1_mustBeHashing_25 : decode cX1_mustBeHashing 25 = .ok (.iconst 0, 1) := dk_3 (dk_at dksX1_mustBeHashing_1 3 rfl rfl)
theorem dX1_mustBeHashing_26 : decode cX1_mustBeHashing 26 = .ok (.invokestatic 78, 3) := dk_184 0 78 (dk_at dksX1_mustBeHashing_1 4 rfl rfl)
theorem dX1_mustBeHashing_29 : decode cX1_mustBeHashing 29 = .ok (.return_, 1) := dk_177 (dk_at dksX1_mustBeHashing_1 7 rfl rfl)
abbrev cX1_find : ByteArray := prog_1_method_27_code
def yX1_find : MethodName := ⟨RX1, "find", "(I)I"⟩
def dkwX1_find_5 : List UInt8 := [172]
abbrev dktX1_find_5 : List UInt8 := dkwX1_find_5 ++ []
def dkwX1_find_4 : List UInt8 := [192, 0, 17, 180, 0, 162, 172, 132, 3, 1, 167, 255, 188, 42, 89, 180, 0, 205, 4, 96, 181, 0, 205, 2]
abbrev dktX1_find_4 : List UInt8 := dkwX1_find_4 ++ dktX1_find_5
def dkwX1_find_3 : List UInt8 := [25, 4, 27, 184, 0, 201, 54, 5, 21, 5, 2, 159, 0, 20, 25, 4, 180, 0, 1, 21, 5, 182, 0, 13]
abbrev dktX1_find_3 : List UInt8 := dkwX1_find_3 ++ dktX1_find_4
def dkwX1_find_2 : List UInt8 := [44, 180, 0, 195, 29, 182, 0, 13, 192, 0, 2, 58, 4, 42, 89, 180, 0, 198, 4, 96, 181, 0, 198]
abbrev dktX1_find_2 : List UInt8 := dkwX1_find_2 ++ dktX1_find_3
def dkwX1_find_1 : List UInt8 := [182, 0, 187, 182, 0, 191, 154, 0, 5, 2, 172, 3, 62, 29, 44, 180, 0, 195, 182, 0, 7, 162, 0, 63]
abbrev dktX1_find_1 : List UInt8 := dkwX1_find_1 ++ dktX1_find_2
def dkwX1_find_0 : List UInt8 := [27, 184, 0, 168, 42, 180, 0, 39, 27, 182, 0, 183, 77, 44, 42, 180, 0, 39, 180, 0, 117, 27]
abbrev dktX1_find_0 : List UInt8 := dkwX1_find_0 ++ dktX1_find_1
theorem dksX1_find_0 : cX1_find.data.toList.drop 0 = dktX1_find_0 := by decide +kernel
theorem dksX1_find_1 : cX1_find.data.toList.drop 22 = dktX1_find_1 := dk_seg dksX1_find_0 22 rfl rfl
theorem dksX1_find_2 : cX1_find.data.toList.drop 46 = dktX1_find_2 := dk_seg dksX1_find_1 24 rfl rfl
theorem dksX1_find_3 : cX1_find.data.toList.drop 69 = dktX1_find_3 := dk_seg dksX1_find_2 23 rfl rfl
theorem dksX1_find_4 : cX1_find.data.toList.drop 93 = dktX1_find_4 := dk_seg dksX1_find_3 24 rfl rfl
theorem dksX1_find_5 : cX1_find.data.toList.drop 117 = dktX1_find_5 := dk_seg dksX1_find_4 24 rfl rfl
theorem dX1_find_0 : decode cX1_find 0 = .ok (.iload_n 1, 1) := dk_27 (dk_at dksX1_find_0 0 rfl rfl)
theorem dX1_find_1 : decode cX1_find 1 = .ok (.invokestatic 168, 3) := dk_184 0 168 (dk_at dksX1_find_0 1 rfl rfl)
theorem dX1_find_4 : decode cX1_find 4 = .ok (.aload_n 0, 1) := dk_42 (dk_at dksX1_find_0 4 rfl rfl)
theorem dX1_find_5 : decode cX1_find 5 = .ok (.getfield 39, 3) := dk_180 0 39 (dk_at dksX1_find_0 5 rfl rfl)
theorem dX1_find_8 : decode cX1_find 8 = .ok (.iload_n 1, 1) := dk_27 (dk_at dksX1_find_0 8 rfl rfl)
theorem dX1_find_9 : decode cX1_find 9 = .ok (.invokevirtual 183, 3) := dk_182 0 183 (dk_at dksX1_find_0 9 rfl rfl)
theorem dX1_find_12 : decode cX1_find 12 = .ok (.astore_n 2, 1) := dk_77 (dk_at dksX1_find_0 12 rfl rfl)
theorem dX1_find_13 : decode cX1_find 13 = .ok (.aload_n 2, 1) := dk_44 (dk_at dksX1_find_0 13 rfl rfl)
theorem dX1_find_14 : decode cX1_find 14 = .ok (.aload_n 0, 1) := dk_42 (dk_at dksX1_find_0 14 rfl rfl)
theorem dX1_find_15 : decode cX1_find 15 = .ok (.getfield 39, 3) := dk_180 0 39 (dk_at dksX1_find_0 15 rfl rfl)
theorem dX1_find_18 : decode cX1_find 18 = .ok (.getfield 117, 3) := dk_180 0 117 (dk_at dksX1_find_0 18 rfl rfl)
theorem dX1_find_21 : decode cX1_find 21 = .ok (.iload_n 1, 1) := dk_27 (dk_at dksX1_find_0 21 rfl rfl)
theorem dX1_find_22 : decode cX1_find 22 = .ok (.invokevirtual 187, 3) := dk_182 0 187 (dk_at dksX1_find_1 0 rfl rfl)
theorem dX1_find_25 : decode cX1_find 25 = .ok (.invokevirtual 191, 3) := dk_182 0 191 (dk_at dksX1_find_1 3 rfl rfl)
theorem dX1_find_28 : decode cX1_find 28 = .ok (.ifCond .ne 5, 3) := dk_154 0 5 (dk_at dksX1_find_1 6 rfl rfl)
theorem dX1_find_31 : decode cX1_find 31 = .ok (.iconst (-1), 1) := dk_2 (dk_at dksX1_find_1 9 rfl rfl)
theorem dX1_find_32 : decode cX1_find 32 = .ok (.ireturn, 1) := dk_172 (dk_at dksX1_find_1 10 rfl rfl)
theorem dX1_find_33 : decode cX1_find 33 = .ok (.iconst 0, 1) := dk_3 (dk_at dksX1_find_1 11 rfl rfl)
theorem dX1_find_34 : decode cX1_find 34 = .ok (.istore_n 3, 1) := dk_62 (dk_at dksX1_find_1 12 rfl rfl)
theorem dX1_find_35 : decode cX1_find 35 = .ok (.iload_n 3, 1) := dk_29 (dk_at dksX1_find_1 13 rfl rfl)
theorem dX1_find_36 : decode cX1_find 36 = .ok (.aload_n 2, 1) := dk_44 (dk_at dksX1_find_1 14 rfl rfl)
theorem dX1_find_37 : decode cX1_find 37 = .ok (.getfield 195, 3) := dk_180 0 195 (dk_at dksX1_find_1 15 rfl rfl)
theorem dX1_find_40 : decode cX1_find 40 = .ok (.invokevirtual 7, 3) := dk_182 0 7 (dk_at dksX1_find_1 18 rfl rfl)
theorem dX1_find_43 : decode cX1_find 43 = .ok (.if_icmp .ge 63, 3) := dk_162 0 63 (dk_at dksX1_find_1 21 rfl rfl)
theorem dX1_find_46 : decode cX1_find 46 = .ok (.aload_n 2, 1) := dk_44 (dk_at dksX1_find_2 0 rfl rfl)
theorem dX1_find_47 : decode cX1_find 47 = .ok (.getfield 195, 3) := dk_180 0 195 (dk_at dksX1_find_2 1 rfl rfl)
theorem dX1_find_50 : decode cX1_find 50 = .ok (.iload_n 3, 1) := dk_29 (dk_at dksX1_find_2 4 rfl rfl)
theorem dX1_find_51 : decode cX1_find 51 = .ok (.invokevirtual 13, 3) := dk_182 0 13 (dk_at dksX1_find_2 5 rfl rfl)
theorem dX1_find_54 : decode cX1_find 54 = .ok (.checkcast 2, 3) := dk_192 0 2 (dk_at dksX1_find_2 8 rfl rfl)
theorem dX1_find_57 : decode cX1_find 57 = .ok (.astore 4, 2) := dk_58 4 (dk_at dksX1_find_2 11 rfl rfl)
theorem dX1_find_59 : decode cX1_find 59 = .ok (.aload_n 0, 1) := dk_42 (dk_at dksX1_find_2 13 rfl rfl)
theorem dX1_find_60 : decode cX1_find 60 = .ok (.dup, 1) := dk_89 (dk_at dksX1_find_2 14 rfl rfl)
theorem dX1_find_61 : decode cX1_find 61 = .ok (.getfield 198, 3) := dk_180 0 198 (dk_at dksX1_find_2 15 rfl rfl)
theorem dX1_find_64 : decode cX1_find 64 = .ok (.iconst 1, 1) := dk_4 (dk_at dksX1_find_2 18 rfl rfl)
theorem dX1_find_65 : decode cX1_find 65 = .ok (.iadd, 1) := dk_96 (dk_at dksX1_find_2 19 rfl rfl)
theorem dX1_find_66 : decode cX1_find 66 = .ok (.putfield 198, 3) := dk_181 0 198 (dk_at dksX1_find_2 20 rfl rfl)
theorem dX1_find_69 : decode cX1_find 69 = .ok (.aload 4, 2) := dk_25 4 (dk_at dksX1_find_3 0 rfl rfl)
theorem dX1_find_71 : decode cX1_find 71 = .ok (.iload_n 1, 1) := dk_27 (dk_at dksX1_find_3 2 rfl rfl)
theorem dX1_find_72 : decode cX1_find 72 = .ok (.invokestatic 201, 3) := dk_184 0 201 (dk_at dksX1_find_3 3 rfl rfl)
theorem dX1_find_75 : decode cX1_find 75 = .ok (.istore 5, 2) := dk_54 5 (dk_at dksX1_find_3 6 rfl rfl)
theorem dX1_find_77 : decode cX1_find 77 = .ok (.iload 5, 2) := dk_21 5 (dk_at dksX1_find_3 8 rfl rfl)
theorem dX1_find_79 : decode cX1_find 79 = .ok (.iconst (-1), 1) := dk_2 (dk_at dksX1_find_3 10 rfl rfl)
theorem dX1_find_80 : decode cX1_find 80 = .ok (.if_icmp .eq 20, 3) := dk_159 0 20 (dk_at dksX1_find_3 11 rfl rfl)
theorem dX1_find_83 : decode cX1_find 83 = .ok (.aload 4, 2) := dk_25 4 (dk_at dksX1_find_3 14 rfl rfl)
theorem dX1_find_85 : decode cX1_find 85 = .ok (.getfield 1, 3) := dk_180 0 1 (dk_at dksX1_find_3 16 rfl rfl)
theorem dX1_find_88 : decode cX1_find 88 = .ok (.iload 5, 2) := dk_21 5 (dk_at dksX1_find_3 19 rfl rfl)
theorem dX1_find_90 : decode cX1_find 90 = .ok (.invokevirtual 13, 3) := dk_182 0 13 (dk_at dksX1_find_3 21 rfl rfl)
theorem dX1_find_93 : decode cX1_find 93 = .ok (.checkcast 17, 3) := dk_192 0 17 (dk_at dksX1_find_4 0 rfl rfl)
theorem dX1_find_96 : decode cX1_find 96 = .ok (.getfield 162, 3) := dk_180 0 162 (dk_at dksX1_find_4 3 rfl rfl)
theorem dX1_find_99 : decode cX1_find 99 = .ok (.ireturn, 1) := dk_172 (dk_at dksX1_find_4 6 rfl rfl)
theorem dX1_find_100 : decode cX1_find 100 = .ok (.iinc 3 1, 3) := dk_132 3 1 (dk_at dksX1_find_4 7 rfl rfl)
theorem dX1_find_103 : decode cX1_find 103 = .ok (.goto (-68), 3) := dk_167 255 188 (dk_at dksX1_find_4 10 rfl rfl)
theorem dX1_find_106 : decode cX1_find 106 = .ok (.aload_n 0, 1) := dk_42 (dk_at dksX1_find_4 13 rfl rfl)
theorem dX1_find_107 : decode cX1_find 107 = .ok (.dup, 1) := dk_89 (dk_at dksX1_find_4 14 rfl rfl)
theorem dX1_find_108 : decode cX1_find 108 = .ok (.getfield 205, 3) := dk_180 0 205 (dk_at dksX1_find_4 15 rfl rfl)
theorem dX1_find_111 : decode cX1_find 111 = .ok (.iconst 1, 1) := dk_4 (dk_at dksX1_find_4 18 rfl rfl)
theorem dX1_find_112 : decode cX1_find 112 = .ok (.iadd, 1) := dk_96 (dk_at dksX1_find_4 19 rfl rfl)
theorem dX1_find_113 : decode cX1_find 113 = .ok (.putfield 205, 3) := dk_181 0 205 (dk_at dksX1_find_4 20 rfl rfl)
theorem dX1_find_116 : decode cX1_find 116 = .ok (.iconst (-1), 1) := dk_2 (dk_at dksX1_find_4 23 rfl rfl)
theorem dX1_find_117 : decode cX1_find 117 = .ok (.ireturn, 1) := dk_172 (dk_at dksX1_find_5 0 rfl rfl)
abbrev cX1_open : ByteArray := prog_1_method_28_code
def yX1_open : MethodName := ⟨RX1, "open", "(I)Z"⟩
def dkwX1_open_1 : List UInt8 := [16, 254, 79, 28, 154, 0, 7, 4, 167, 0, 4, 3, 172]
abbrev dktX1_open_1 : List UInt8 := dkwX1_open_1 ++ []
def dkwX1_open_0 : List UInt8 := [27, 184, 0, 208, 42, 180, 0, 57, 27, 51, 61, 42, 180, 0, 57, 27, 4, 84, 42, 180, 0, 61, 27]
abbrev dktX1_open_0 : List UInt8 := dkwX1_open_0 ++ dktX1_open_1
theorem dksX1_open_0 : cX1_open.data.toList.drop 0 = dktX1_open_0 := by decide +kernel
theorem dksX1_open_1 : cX1_open.data.toList.drop 23 = dktX1_open_1 := dk_seg dksX1_open_0 23 rfl rfl
theorem dX1_open_0 : decode cX1_open 0 = .ok (.iload_n 1, 1) := dk_27 (dk_at dksX1_open_0 0 rfl rfl)
theorem dX1_open_1 : decode cX1_open 1 = .ok (.invokestatic 208, 3) := dk_184 0 208 (dk_at dksX1_open_0 1 rfl rfl)
theorem dX1_open_4 : decode cX1_open 4 = .ok (.aload_n 0, 1) := dk_42 (dk_at dksX1_open_0 4 rfl rfl)
theorem dX1_open_5 : decode cX1_open 5 = .ok (.getfield 57, 3) := dk_180 0 57 (dk_at dksX1_open_0 5 rfl rfl)
theorem dX1_open_8 : decode cX1_open 8 = .ok (.iload_n 1, 1) := dk_27 (dk_at dksX1_open_0 8 rfl rfl)
theorem dX1_open_9 : decode cX1_open 9 = .ok (.baload, 1) := dk_51 (dk_at dksX1_open_0 9 rfl rfl)
theorem dX1_open_10 : decode cX1_open 10 = .ok (.istore_n 2, 1) := dk_61 (dk_at dksX1_open_0 10 rfl rfl)
theorem dX1_open_11 : decode cX1_open 11 = .ok (.aload_n 0, 1) := dk_42 (dk_at dksX1_open_0 11 rfl rfl)
theorem dX1_open_12 : decode cX1_open 12 = .ok (.getfield 57, 3) := dk_180 0 57 (dk_at dksX1_open_0 12 rfl rfl)
theorem dX1_open_15 : decode cX1_open 15 = .ok (.iload_n 1, 1) := dk_27 (dk_at dksX1_open_0 15 rfl rfl)
theorem dX1_open_16 : decode cX1_open 16 = .ok (.iconst 1, 1) := dk_4 (dk_at dksX1_open_0 16 rfl rfl)
theorem dX1_open_17 : decode cX1_open 17 = .ok (.bastore, 1) := dk_84 (dk_at dksX1_open_0 17 rfl rfl)
theorem dX1_open_18 : decode cX1_open 18 = .ok (.aload_n 0, 1) := dk_42 (dk_at dksX1_open_0 18 rfl rfl)
theorem dX1_open_19 : decode cX1_open 19 = .ok (.getfield 61, 3) := dk_180 0 61 (dk_at dksX1_open_0 19 rfl rfl)
theorem dX1_open_22 : decode cX1_open 22 = .ok (.iload_n 1, 1) := dk_27 (dk_at dksX1_open_0 22 rfl rfl)
theorem dX1_open_23 : decode cX1_open 23 = .ok (.bipush (-2), 2) := dk_16 254 (dk_at dksX1_open_1 0 rfl rfl)
theorem dX1_open_25 : decode cX1_open 25 = .ok (.iastore, 1) := dk_79 (dk_at dksX1_open_1 2 rfl rfl)
theorem dX1_open_26 : decode cX1_open 26 = .ok (.iload_n 2, 1) := dk_28 (dk_at dksX1_open_1 3 rfl rfl)
theorem dX1_open_27 : decode cX1_open 27 = .ok (.ifCond .ne 7, 3) := dk_154 0 7 (dk_at dksX1_open_1 4 rfl rfl)
theorem dX1_open_30 : decode cX1_open 30 = .ok (.iconst 1, 1) := dk_4 (dk_at dksX1_open_1 7 rfl rfl)
theorem dX1_open_31 : decode cX1_open 31 = .ok (.goto 4, 3) := dk_167 0 4 (dk_at dksX1_open_1 8 rfl rfl)
theorem dX1_open_34 : decode cX1_open 34 = .ok (.iconst 0, 1) := dk_3 (dk_at dksX1_open_1 11 rfl rfl)
theorem dX1_open_35 : decode cX1_open 35 = .ok (.ireturn, 1) := dk_172 (dk_at dksX1_open_1 12 rfl rfl)
abbrev cX1_mustBeCursor : ByteArray := prog_1_method_13_code
def yX1_mustBeCursor : MethodName := ⟨RX1, "mustBeCursor", "(I)V"⟩
def dkwX1_mustBeCursor_0 : List UInt8 := [26, 3, 5, 184, 0, 74, 184, 0, 85, 177]
abbrev dktX1_mustBeCursor_0 : List UInt8 := dkwX1_mustBeCursor_0 ++ []
theorem dksX1_mustBeCursor_0 : cX1_mustBeCursor.data.toList.drop 0 = dktX1_mustBeCursor_0 := by decide +kernel
theorem dX1_mustBeCursor_0 : decode cX1_mustBeCursor 0 = .ok (.iload_n 0, 1) := dk_26 (dk_at dksX1_mustBeCursor_0 0 rfl rfl)
theorem dX1_mustBeCursor_1 : decode cX1_mustBeCursor 1 = .ok (.iconst 0, 1) := dk_3 (dk_at dksX1_mustBeCursor_0 1 rfl rfl)
theorem dX1_mustBeCursor_2 : decode cX1_mustBeCursor 2 = .ok (.iconst 2, 1) := dk_5 (dk_at dksX1_mustBeCursor_0 2 rfl rfl)
theorem dX1_mustBeCursor_3 : decode cX1_mustBeCursor 3 = .ok (.invokestatic 74, 3) := dk_184 0 74 (dk_at dksX1_mustBeCursor_0 3 rfl rfl)
theorem dX1_mustBeCursor_6 : decode cX1_mustBeCursor 6 = .ok (.invokestatic 85, 3) := dk_184 0 85 (dk_at dksX1_mustBeCursor_0 6 rfl rfl)
theorem dX1_mustBeCursor_9 : decode cX1_mustBeCursor 9 = .ok (.return_, 1) := dk_177 (dk_at dksX1_mustBeCursor_0 9 rfl rfl)
abbrev cX1_mustBe : ByteArray := prog_1_method_7_code
def yX1_mustBe : MethodName := ⟨RX1, "mustBe", "(Z)V"⟩
def dkwX1_mustBe_0 : List UInt8 := [26, 154, 0, 11, 187, 0, 65, 89, 183, 0, 67, 191, 177]
abbrev dktX1_mustBe_0 : List UInt8 := dkwX1_mustBe_0 ++ []
theorem dksX1_mustBe_0 : cX1_mustBe.data.toList.drop 0 = dktX1_mustBe_0 := by decide +kernel
theorem dX1_mustBe_0 : decode cX1_mustBe 0 = .ok (.iload_n 0, 1) := dk_26 (dk_at dksX1_mustBe_0 0 rfl rfl)
theorem dX1_mustBe_1 : decode cX1_mustBe 1 = .ok (.ifCond .ne 11, 3) := dk_154 0 11 (dk_at dksX1_mustBe_0 1 rfl rfl)
theorem dX1_mustBe_4 : decode cX1_mustBe 4 = .ok (.new 65, 3) := dk_187 0 65 (dk_at dksX1_mustBe_0 4 rfl rfl)
theorem dX1_mustBe_7 : decode cX1_mustBe 7 = .ok (.dup, 1) := dk_89 (dk_at dksX1_mustBe_0 7 rfl rfl)
theorem dX1_mustBe_8 : decode cX1_mustBe 8 = .ok (.invokespecial 67, 3) := dk_183 0 67 (dk_at dksX1_mustBe_0 8 rfl rfl)
theorem dX1_mustBe_11 : decode cX1_mustBe 11 = .ok (.athrow, 1) := dk_191 (dk_at dksX1_mustBe_0 11 rfl rfl)
theorem dX1_mustBe_12 : decode cX1_mustBe 12 = .ok (.return_, 1) := dk_177 (dk_at dksX1_mustBe_0 12 rfl rfl)
abbrev cX1_next : ByteArray := prog_1_method_29_code
def yX1_next : MethodName := ⟨RX1, "next", "(I)I"⟩
def dkwX1_next_1 : List UInt8 := [44, 199, 0, 5, 2, 172, 42, 180, 0, 61, 27, 44, 180, 0, 19, 79, 44, 180, 0, 19, 172]
abbrev dktX1_next_1 : List UInt8 := dkwX1_next_1 ++ []
def dkwX1_next_0 : List UInt8 := [27, 184, 0, 208, 42, 180, 0, 57, 27, 51, 184, 0, 159, 42, 42, 180, 0, 61, 27, 46, 182, 0, 127, 77]
abbrev dktX1_next_0 : List UInt8 := dkwX1_next_0 ++ dktX1_next_1
theorem dksX1_next_0 : cX1_next.data.toList.drop 0 = dktX1_next_0 := by decide +kernel
theorem dksX1_next_1 : cX1_next.data.toList.drop 24 = dktX1_next_1 := dk_seg dksX1_next_0 24 rfl rfl
theorem dX1_next_0 : decode cX1_next 0 = .ok (.iload_n 1, 1) := dk_27 (dk_at dksX1_next_0 0 rfl rfl)
theorem dX1_next_1 : decode cX1_next 1 = .ok (.invokestatic 208, 3) := dk_184 0 208 (dk_at dksX1_next_0 1 rfl rfl)
theorem dX1_next_4 : decode cX1_next 4 = .ok (.aload_n 0, 1) := dk_42 (dk_at dksX1_next_0 4 rfl rfl)
theorem dX1_next_5 : decode cX1_next 5 = .ok (.getfield 57, 3) := dk_180 0 57 (dk_at dksX1_next_0 5 rfl rfl)
theorem dX1_next_8 : decode cX1_next 8 = .ok (.iload_n 1, 1) := dk_27 (dk_at dksX1_next_0 8 rfl rfl)
theorem dX1_next_9 : decode cX1_next 9 = .ok (.baload, 1) := dk_51 (dk_at dksX1_next_0 9 rfl rfl)
theorem dX1_next_10 : decode cX1_next 10 = .ok (.invokestatic 159, 3) := dk_184 0 159 (dk_at dksX1_next_0 10 rfl rfl)
theorem dX1_next_13 : decode cX1_next 13 = .ok (.aload_n 0, 1) := dk_42 (dk_at dksX1_next_0 13 rfl rfl)
theorem dX1_next_14 : decode cX1_next 14 = .ok (.aload_n 0, 1) := dk_42 (dk_at dksX1_next_0 14 rfl rfl)
theorem dX1_next_15 : decode cX1_next 15 = .ok (.getfield 61, 3) := dk_180 0 61 (dk_at dksX1_next_0 15 rfl rfl)
theorem dX1_next_18 : decode cX1_next 18 = .ok (.iload_n 1, 1) := dk_27 (dk_at dksX1_next_0 18 rfl rfl)
theorem dX1_next_19 : decode cX1_next 19 = .ok (.iaload, 1) := dk_46 (dk_at dksX1_next_0 19 rfl rfl)
theorem dX1_next_20 : decode cX1_next 20 = .ok (.invokevirtual 127, 3) := dk_182 0 127 (dk_at dksX1_next_0 20 rfl rfl)
theorem dX1_next_23 : decode cX1_next 23 = .ok (.astore_n 2, 1) := dk_77 (dk_at dksX1_next_0 23 rfl rfl)
theorem dX1_next_24 : decode cX1_next 24 = .ok (.aload_n 2, 1) := dk_44 (dk_at dksX1_next_1 0 rfl rfl)
theorem dX1_next_25 : decode cX1_next 25 = .ok (.ifnonnull 5, 3) := dk_199 0 5 (dk_at dksX1_next_1 1 rfl rfl)
theorem dX1_next_28 : decode cX1_next 28 = .ok (.iconst (-1), 1) := dk_2 (dk_at dksX1_next_1 4 rfl rfl)
theorem dX1_next_29 : decode cX1_next 29 = .ok (.ireturn, 1) := dk_172 (dk_at dksX1_next_1 5 rfl rfl)
theorem dX1_next_30 : decode cX1_next 30 = .ok (.aload_n 0, 1) := dk_42 (dk_at dksX1_next_1 6 rfl rfl)
theorem dX1_next_31 : decode cX1_next 31 = .ok (.getfield 61, 3) := dk_180 0 61 (dk_at dksX1_next_1 7 rfl rfl)
theorem dX1_next_34 : decode cX1_next 34 = .ok (.iload_n 1, 1) := dk_27 (dk_at dksX1_next_1 10 rfl rfl)
theorem dX1_next_35 : decode cX1_next 35 = .ok (.aload_n 2, 1) := dk_44 (dk_at dksX1_next_1 11 rfl rfl)
theorem dX1_next_36 : decode cX1_next 36 = .ok (.getfield 19, 3) := dk_180 0 19 (dk_at dksX1_next_1 12 rfl rfl)
theorem dX1_next_39 : decode cX1_next 39 = .ok (.iastore, 1) := dk_79 (dk_at dksX1_next_1 15 rfl rfl)
theorem dX1_next_40 : decode cX1_next 40 = .ok (.aload_n 2, 1) := dk_44 (dk_at dksX1_next_1 16 rfl rfl)
theorem dX1_next_41 : decode cX1_next 41 = .ok (.getfield 19, 3) := dk_180 0 19 (dk_at dksX1_next_1 17 rfl rfl)
theorem dX1_next_44 : decode cX1_next 44 = .ok (.ireturn, 1) := dk_172 (dk_at dksX1_next_1 20 rfl rfl)
abbrev cX1_behind : ByteArray := prog_1_method_20_code
def yX1_behind : MethodName := ⟨RX1, "behind", "(I)LSplitpointer$Entry;"⟩
def dkwX1_behind_6 : List UInt8 := [44, 176]
abbrev dktX1_behind_6 : List UInt8 := dkwX1_behind_6 ++ []
def dkwX1_behind_5 : List UInt8 := [180, 0, 19, 182, 0, 121, 153, 0, 6, 25, 6, 77, 132, 5, 1, 167, 255, 165, 132, 3, 1, 167, 255, 123]
abbrev dktX1_behind_5 : List UInt8 := dkwX1_behind_5 ++ dktX1_behind_6
def dkwX1_behind_4 : List UInt8 := [54, 7, 21, 7, 153, 0, 32, 44, 198, 0, 25, 42, 180, 0, 39, 180, 0, 117, 25, 6, 180, 0, 19, 44]
abbrev dktX1_behind_4 : List UInt8 := dkwX1_behind_4 ++ dktX1_behind_5
def dkwX1_behind_3 : List UInt8 := [42, 180, 0, 39, 180, 0, 117, 27, 25, 6, 180, 0, 19, 182, 0, 121, 153, 0, 7, 4, 167, 0, 4, 3]
abbrev dktX1_behind_3 : List UInt8 := dkwX1_behind_3 ++ dktX1_behind_4
def dkwX1_behind_2 : List UInt8 := [182, 0, 7, 162, 0, 87, 25, 4, 21, 5, 182, 0, 13, 192, 0, 17, 58, 6, 27, 16, 254, 159, 0, 22]
abbrev dktX1_behind_2 : List UInt8 := dkwX1_behind_2 ++ dktX1_behind_3
def dkwX1_behind_1 : List UInt8 := [180, 0, 82, 29, 182, 0, 13, 192, 0, 88, 182, 0, 113, 58, 4, 3, 54, 5, 21, 5, 25, 4]
abbrev dktX1_behind_1 : List UInt8 := dkwX1_behind_1 ++ dktX1_behind_2
def dkwX1_behind_0 : List UInt8 := [1, 77, 3, 62, 29, 42, 180, 0, 39, 180, 0, 82, 182, 0, 7, 162, 0, 125, 42, 180, 0, 39]
abbrev dktX1_behind_0 : List UInt8 := dkwX1_behind_0 ++ dktX1_behind_1
theorem dksX1_behind_0 : cX1_behind.data.toList.drop 0 = dktX1_behind_0 := by decide +kernel
theorem dksX1_behind_1 : cX1_behind.data.toList.drop 22 = dktX1_behind_1 := dk_seg dksX1_behind_0 22 rfl rfl
theorem dksX1_behind_2 : cX1_behind.data.toList.drop 44 = dktX1_behind_2 := dk_seg dksX1_behind_1 22 rfl rfl
theorem dksX1_behind_3 : cX1_behind.data.toList.drop 68 = dktX1_behind_3 := dk_seg dksX1_behind_2 24 rfl rfl
theorem dksX1_behind_4 : cX1_behind.data.toList.drop 92 = dktX1_behind_4 := dk_seg dksX1_behind_3 24 rfl rfl
theorem dksX1_behind_5 : cX1_behind.data.toList.drop 116 = dktX1_behind_5 := dk_seg dksX1_behind_4 24 rfl rfl
theorem dksX1_behind_6 : cX1_behind.data.toList.drop 140 = dktX1_behind_6 := dk_seg dksX1_behind_5 24 rfl rfl
theorem dX1_behind_0 : decode cX1_behind 0 = .ok (.aconst_null, 1) := dk_1 (dk_at dksX1_behind_0 0 rfl rfl)
theorem dX1_behind_1 : decode cX1_behind 1 = .ok (.astore_n 2, 1) := dk_77 (dk_at dksX1_behind_0 1 rfl rfl)
theorem dX1_behind_2 : decode cX1_behind 2 = .ok (.iconst 0, 1) := dk_3 (dk_at dksX1_behind_0 2 rfl rfl)
theorem dX1_behind_3 : decode cX1_behind 3 = .ok (.istore_n 3, 1) := dk_62 (dk_at dksX1_behind_0 3 rfl rfl)
theorem dX1_behind_4 : decode cX1_behind 4 = .ok (.iload_n 3, 1) := dk_29 (dk_at dksX1_behind_0 4 rfl rfl)
theorem dX1_behind_5 : decode cX1_behind 5 = .ok (.aload_n 0, 1) := dk_42 (dk_at dksX1_behind_0 5 rfl rfl)
theorem dX1_behind_6 : decode cX1_behind 6 = .ok (.getfield 39, 3) := dk_180 0 39 (dk_at dksX1_behind_0 6 rfl rfl)
theorem dX1_behind_9 : decode cX1_behind 9 = .ok (.getfield 82, 3) := dk_180 0 82 (dk_at dksX1_behind_0 9 rfl rfl)
theorem dX1_behind_12 : decode cX1_behind 12 = .ok (.invokevirtual 7, 3) := dk_182 0 7 (dk_at dksX1_behind_0 12 rfl rfl)
theorem dX1_behind_15 : decode cX1_behind 15 = .ok (.if_icmp .ge 125, 3) := dk_162 0 125 (dk_at dksX1_behind_0 15 rfl rfl)
theorem dX1_behind_18 : decode cX1_behind 18 = .ok (.aload_n 0, 1) := dk_42 (dk_at dksX1_behind_0 18 rfl rfl)
theorem dX1_behind_19 : decode cX1_behind 19 = .ok (.getfield 39, 3) := dk_180 0 39 (dk_at dksX1_behind_0 19 rfl rfl)
theorem dX1_behind_22 : decode cX1_behind 22 = .ok (.getfield 82, 3) := dk_180 0 82 (dk_at dksX1_behind_1 0 rfl rfl)
theorem dX1_behind_25 : decode cX1_behind 25 = .ok (.iload_n 3, 1) := dk_29 (dk_at dksX1_behind_1 3 rfl rfl)
theorem dX1_behind_26 : decode cX1_behind 26 = .ok (.invokevirtual 13, 3) := dk_182 0 13 (dk_at dksX1_behind_1 4 rfl rfl)
theorem dX1_behind_29 : decode cX1_behind 29 = .ok (.checkcast 88, 3) := dk_192 0 88 (dk_at dksX1_behind_1 7 rfl rfl)
theorem dX1_behind_32 : decode cX1_behind 32 = .ok (.invokevirtual 113, 3) := dk_182 0 113 (dk_at dksX1_behind_1 10 rfl rfl)
theorem dX1_behind_35 : decode cX1_behind 35 = .ok (.astore 4, 2) := dk_58 4 (dk_at dksX1_behind_1 13 rfl rfl)
theorem dX1_behind_37 : decode cX1_behind 37 = .ok (.iconst 0, 1) := dk_3 (dk_at dksX1_behind_1 15 rfl rfl)
theorem dX1_behind_38 : decode cX1_behind 38 = .ok (.istore 5, 2) := dk_54 5 (dk_at dksX1_behind_1 16 rfl rfl)
theorem dX1_behind_40 : decode cX1_behind 40 = .ok (.iload 5, 2) := dk_21 5 (dk_at dksX1_behind_1 18 rfl rfl)
theorem dX1_behind_42 : decode cX1_behind 42 = .ok (.aload 4, 2) := dk_25 4 (dk_at dksX1_behind_1 20 rfl rfl)
theorem dX1_behind_44 : decode cX1_behind 44 = .ok (.invokevirtual 7, 3) := dk_182 0 7 (dk_at dksX1_behind_2 0 rfl rfl)
theorem dX1_behind_47 : decode cX1_behind 47 = .ok (.if_icmp .ge 87, 3) := dk_162 0 87 (dk_at dksX1_behind_2 3 rfl rfl)
theorem dX1_behind_50 : decode cX1_behind 50 = .ok (.aload 4, 2) := dk_25 4 (dk_at dksX1_behind_2 6 rfl rfl)
theorem dX1_behind_52 : decode cX1_behind 52 = .ok (.iload 5, 2) := dk_21 5 (dk_at dksX1_behind_2 8 rfl rfl)
theorem dX1_behind_54 : decode cX1_behind 54 = .ok (.invokevirtual 13, 3) := dk_182 0 13 (dk_at dksX1_behind_2 10 rfl rfl)
theorem dX1_behind_57 : decode cX1_behind 57 = .ok (.checkcast 17, 3) := dk_192 0 17 (dk_at dksX1_behind_2 13 rfl rfl)
theorem dX1_behind_60 : decode cX1_behind 60 = .ok (.astore 6, 2) := dk_58 6 (dk_at dksX1_behind_2 16 rfl rfl)
theorem dX1_behind_62 : decode cX1_behind 62 = .ok (.iload_n 1, 1) := dk_27 (dk_at dksX1_behind_2 18 rfl rfl)
theorem dX1_behind_63 : decode cX1_behind 63 = .ok (.bipush (-2), 2) := dk_16 254 (dk_at dksX1_behind_2 19 rfl rfl)
theorem dX1_behind_65 : decode cX1_behind 65 = .ok (.if_icmp .eq 22, 3) := dk_159 0 22 (dk_at dksX1_behind_2 21 rfl rfl)
theorem dX1_behind_68 : decode cX1_behind 68 = .ok (.aload_n 0, 1) := dk_42 (dk_at dksX1_behind_3 0 rfl rfl)
theorem dX1_behind_69 : decode cX1_behind 69 = .ok (.getfield 39, 3) := dk_180 0 39 (dk_at dksX1_behind_3 1 rfl rfl)
theorem dX1_behind_72 : decode cX1_behind 72 = .ok (.getfield 117, 3) := dk_180 0 117 (dk_at dksX1_behind_3 4 rfl rfl)
theorem dX1_behind_75 : decode cX1_behind 75 = .ok (.iload_n 1, 1) := dk_27 (dk_at dksX1_behind_3 7 rfl rfl)
theorem dX1_behind_76 : decode cX1_behind 76 = .ok (.aload 6, 2) := dk_25 6 (dk_at dksX1_behind_3 8 rfl rfl)
theorem dX1_behind_78 : decode cX1_behind 78 = .ok (.getfield 19, 3) := dk_180 0 19 (dk_at dksX1_behind_3 10 rfl rfl)
theorem dX1_behind_81 : decode cX1_behind 81 = .ok (.invokevirtual 121, 3) := dk_182 0 121 (dk_at dksX1_behind_3 13 rfl rfl)
theorem dX1_behind_84 : decode cX1_behind 84 = .ok (.ifCond .eq 7, 3) := dk_153 0 7 (dk_at dksX1_behind_3 16 rfl rfl)
theorem dX1_behind_87 : decode cX1_behind 87 = .ok (.iconst 1, 1) := dk_4 (dk_at dksX1_behind_3 19 rfl rfl)
theorem dX1_behind_88 : decode cX1_behind 88 = .ok (.goto 4, 3) := dk_167 0 4 (dk_at dksX1_behind_3 20 rfl rfl)
theorem dX1_behind_91 : decode cX1_behind 91 = .ok (.iconst 0, 1) := dk_3 (dk_at dksX1_behind_3 23 rfl rfl)
theorem dX1_behind_92 : decode cX1_behind 92 = .ok (.istore 7, 2) := dk_54 7 (dk_at dksX1_behind_4 0 rfl rfl)
theorem dX1_behind_94 : decode cX1_behind 94 = .ok (.iload 7, 2) := dk_21 7 (dk_at dksX1_behind_4 2 rfl rfl)
theorem dX1_behind_96 : decode cX1_behind 96 = .ok (.ifCond .eq 32, 3) := dk_153 0 32 (dk_at dksX1_behind_4 4 rfl rfl)
theorem dX1_behind_99 : decode cX1_behind 99 = .ok (.aload_n 2, 1) := dk_44 (dk_at dksX1_behind_4 7 rfl rfl)
theorem dX1_behind_100 : decode cX1_behind 100 = .ok (.ifnull 25, 3) := dk_198 0 25 (dk_at dksX1_behind_4 8 rfl rfl)
theorem dX1_behind_103 : decode cX1_behind 103 = .ok (.aload_n 0, 1) := dk_42 (dk_at dksX1_behind_4 11 rfl rfl)
theorem dX1_behind_104 : decode cX1_behind 104 = .ok (.getfield 39, 3) := dk_180 0 39 (dk_at dksX1_behind_4 12 rfl rfl)
theorem dX1_behind_107 : decode cX1_behind 107 = .ok (.getfield 117, 3) := dk_180 0 117 (dk_at dksX1_behind_4 15 rfl rfl)
theorem dX1_behind_110 : decode cX1_behind 110 = .ok (.aload 6, 2) := dk_25 6 (dk_at dksX1_behind_4 18 rfl rfl)
theorem dX1_behind_112 : decode cX1_behind 112 = .ok (.getfield 19, 3) := dk_180 0 19 (dk_at dksX1_behind_4 20 rfl rfl)
theorem dX1_behind_115 : decode cX1_behind 115 = .ok (.aload_n 2, 1) := dk_44 (dk_at dksX1_behind_4 23 rfl rfl)
theorem dX1_behind_116 : decode cX1_behind 116 = .ok (.getfield 19, 3) := dk_180 0 19 (dk_at dksX1_behind_5 0 rfl rfl)
theorem dX1_behind_119 : decode cX1_behind 119 = .ok (.invokevirtual 121, 3) := dk_182 0 121 (dk_at dksX1_behind_5 3 rfl rfl)
theorem dX1_behind_122 : decode cX1_behind 122 = .ok (.ifCond .eq 6, 3) := dk_153 0 6 (dk_at dksX1_behind_5 6 rfl rfl)
theorem dX1_behind_125 : decode cX1_behind 125 = .ok (.aload 6, 2) := dk_25 6 (dk_at dksX1_behind_5 9 rfl rfl)
theorem dX1_behind_127 : decode cX1_behind 127 = .ok (.astore_n 2, 1) := dk_77 (dk_at dksX1_behind_5 11 rfl rfl)
theorem dX1_behind_128 : decode cX1_behind 128 = .ok (.iinc 5 1, 3) := dk_132 5 1 (dk_at dksX1_behind_5 12 rfl rfl)
theorem dX1_behind_131 : decode cX1_behind 131 = .ok (.goto (-91), 3) := dk_167 255 165 (dk_at dksX1_behind_5 15 rfl rfl)
theorem dX1_behind_134 : decode cX1_behind 134 = .ok (.iinc 3 1, 3) := dk_132 3 1 (dk_at dksX1_behind_5 18 rfl rfl)
theorem dX1_behind_137 : decode cX1_behind 137 = .ok (.goto (-133), 3) := dk_167 255 123 (dk_at dksX1_behind_5 21 rfl rfl)
theorem dX1_behind_140 : decode cX1_behind 140 = .ok (.aload_n 2, 1) := dk_44 (dk_at dksX1_behind_6 0 rfl rfl)
theorem dX1_behind_141 : decode cX1_behind 141 = .ok (.areturn, 1) := dk_176 (dk_at dksX1_behind_6 1 rfl rfl)
abbrev cX1_ask : ByteArray := prog_1_method_31_code
def yX1_ask : MethodName := ⟨RX1, "ask", "(II)I"⟩
def dkwX1_ask_6 : List UInt8 := [172]
abbrev dktX1_ask_6 : List UInt8 := dkwX1_ask_6 ++ []
def dkwX1_ask_5 : List UInt8 := [180, 0, 39, 21, 5, 182, 0, 211, 182, 0, 231, 42, 89, 180, 0, 234, 21, 6, 96, 181, 0, 234, 21, 6]
abbrev dktX1_ask_5 : List UInt8 := dkwX1_ask_5 ++ dktX1_ask_6
def dkwX1_ask_4 : List UInt8 := [54, 7, 42, 21, 7, 21, 4, 182, 0, 227, 54, 8, 167, 255, 232, 21, 6, 158, 0, 18, 45, 21, 5, 42]
abbrev dktX1_ask_4 : List UInt8 := dkwX1_ask_4 ++ dktX1_ask_5
def dkwX1_ask_3 : List UInt8 := [54, 7, 42, 21, 7, 21, 4, 182, 0, 227, 54, 8, 21, 8, 21, 7, 159, 0, 23, 132, 6, 1, 21, 8]
abbrev dktX1_ask_3 : List UInt8 := dkwX1_ask_3 ++ dktX1_ask_4
def dkwX1_ask_2 : List UInt8 := [180, 0, 39, 180, 0, 221, 42, 180, 0, 39, 180, 0, 224, 182, 0, 140, 6, 172, 3, 54, 6, 21, 5]
abbrev dktX1_ask_2 : List UInt8 := dkwX1_ask_2 ++ dktX1_ask_3
def dkwX1_ask_1 : List UInt8 := [21, 4, 182, 0, 218, 54, 5, 21, 5, 42, 180, 0, 39, 180, 0, 82, 182, 0, 7, 161, 0, 23, 45, 42]
abbrev dktX1_ask_1 : List UInt8 := dkwX1_ask_1 ++ dktX1_ask_2
def dkwX1_ask_0 : List UInt8 := [42, 27, 182, 0, 214, 78, 28, 184, 0, 168, 42, 180, 0, 39, 180, 0, 117, 28, 182, 0, 187, 54, 4, 45]
abbrev dktX1_ask_0 : List UInt8 := dkwX1_ask_0 ++ dktX1_ask_1
theorem dksX1_ask_0 : cX1_ask.data.toList.drop 0 = dktX1_ask_0 := by decide +kernel
theorem dksX1_ask_1 : cX1_ask.data.toList.drop 24 = dktX1_ask_1 := dk_seg dksX1_ask_0 24 rfl rfl
theorem dksX1_ask_2 : cX1_ask.data.toList.drop 48 = dktX1_ask_2 := dk_seg dksX1_ask_1 24 rfl rfl
theorem dksX1_ask_3 : cX1_ask.data.toList.drop 71 = dktX1_ask_3 := dk_seg dksX1_ask_2 23 rfl rfl
theorem dksX1_ask_4 : cX1_ask.data.toList.drop 95 = dktX1_ask_4 := dk_seg dksX1_ask_3 24 rfl rfl
theorem dksX1_ask_5 : cX1_ask.data.toList.drop 119 = dktX1_ask_5 := dk_seg dksX1_ask_4 24 rfl rfl
theorem dksX1_ask_6 : cX1_ask.data.toList.drop 143 = dktX1_ask_6 := dk_seg dksX1_ask_5 24 rfl rfl
theorem dX1_ask_0 : decode cX1_ask 0 = .ok (.aload_n 0, 1) := dk_42 (dk_at dksX1_ask_0 0 rfl rfl)
theorem dX1_ask_1 : decode cX1_ask 1 = .ok (.iload_n 1, 1) := dk_27 (dk_at dksX1_ask_0 1 rfl rfl)
theorem dX1_ask_2 : decode cX1_ask 2 = .ok (.invokevirtual 214, 3) := dk_182 0 214 (dk_at dksX1_ask_0 2 rfl rfl)
theorem dX1_ask_5 : decode cX1_ask 5 = .ok (.astore_n 3, 1) := dk_78 (dk_at dksX1_ask_0 5 rfl rfl)
theorem dX1_ask_6 : decode cX1_ask 6 = .ok (.iload_n 2, 1) := dk_28 (dk_at dksX1_ask_0 6 rfl rfl)
theorem dX1_ask_7 : decode cX1_ask 7 = .ok (.invokestatic 168, 3) := dk_184 0 168 (dk_at dksX1_ask_0 7 rfl rfl)
theorem dX1_ask_10 : decode cX1_ask 10 = .ok (.aload_n 0, 1) := dk_42 (dk_at dksX1_ask_0 10 rfl rfl)
theorem dX1_ask_11 : decode cX1_ask 11 = .ok (.getfield 39, 3) := dk_180 0 39 (dk_at dksX1_ask_0 11 rfl rfl)
theorem dX1_ask_14 : decode cX1_ask 14 = .ok (.getfield 117, 3) := dk_180 0 117 (dk_at dksX1_ask_0 14 rfl rfl)
theorem dX1_ask_17 : decode cX1_ask 17 = .ok (.iload_n 2, 1) := dk_28 (dk_at dksX1_ask_0 17 rfl rfl)
theorem dX1_ask_18 : decode cX1_ask 18 = .ok (.invokevirtual 187, 3) := dk_182 0 187 (dk_at dksX1_ask_0 18 rfl rfl)
theorem dX1_ask_21 : decode cX1_ask 21 = .ok (.istore 4, 2) := dk_54 4 (dk_at dksX1_ask_0 21 rfl rfl)
theorem dX1_ask_23 : decode cX1_ask 23 = .ok (.aload_n 3, 1) := dk_45 (dk_at dksX1_ask_0 23 rfl rfl)
theorem dX1_ask_24 : decode cX1_ask 24 = .ok (.iload 4, 2) := dk_21 4 (dk_at dksX1_ask_1 0 rfl rfl)
theorem dX1_ask_26 : decode cX1_ask 26 = .ok (.invokevirtual 218, 3) := dk_182 0 218 (dk_at dksX1_ask_1 2 rfl rfl)
theorem dX1_ask_29 : decode cX1_ask 29 = .ok (.istore 5, 2) := dk_54 5 (dk_at dksX1_ask_1 5 rfl rfl)
theorem dX1_ask_31 : decode cX1_ask 31 = .ok (.iload 5, 2) := dk_21 5 (dk_at dksX1_ask_1 7 rfl rfl)
theorem dX1_ask_33 : decode cX1_ask 33 = .ok (.aload_n 0, 1) := dk_42 (dk_at dksX1_ask_1 9 rfl rfl)
theorem dX1_ask_34 : decode cX1_ask 34 = .ok (.getfield 39, 3) := dk_180 0 39 (dk_at dksX1_ask_1 10 rfl rfl)
theorem dX1_ask_37 : decode cX1_ask 37 = .ok (.getfield 82, 3) := dk_180 0 82 (dk_at dksX1_ask_1 13 rfl rfl)
theorem dX1_ask_40 : decode cX1_ask 40 = .ok (.invokevirtual 7, 3) := dk_182 0 7 (dk_at dksX1_ask_1 16 rfl rfl)
theorem dX1_ask_43 : decode cX1_ask 43 = .ok (.if_icmp .lt 23, 3) := dk_161 0 23 (dk_at dksX1_ask_1 19 rfl rfl)
theorem dX1_ask_46 : decode cX1_ask 46 = .ok (.aload_n 3, 1) := dk_45 (dk_at dksX1_ask_1 22 rfl rfl)
theorem dX1_ask_47 : decode cX1_ask 47 = .ok (.aload_n 0, 1) := dk_42 (dk_at dksX1_ask_1 23 rfl rfl)
theorem dX1_ask_48 : decode cX1_ask 48 = .ok (.getfield 39, 3) := dk_180 0 39 (dk_at dksX1_ask_2 0 rfl rfl)
theorem dX1_ask_51 : decode cX1_ask 51 = .ok (.getfield 221, 3) := dk_180 0 221 (dk_at dksX1_ask_2 3 rfl rfl)
theorem dX1_ask_54 : decode cX1_ask 54 = .ok (.aload_n 0, 1) := dk_42 (dk_at dksX1_ask_2 6 rfl rfl)
theorem dX1_ask_55 : decode cX1_ask 55 = .ok (.getfield 39, 3) := dk_180 0 39 (dk_at dksX1_ask_2 7 rfl rfl)
theorem dX1_ask_58 : decode cX1_ask 58 = .ok (.getfield 224, 3) := dk_180 0 224 (dk_at dksX1_ask_2 10 rfl rfl)
theorem dX1_ask_61 : decode cX1_ask 61 = .ok (.invokevirtual 140, 3) := dk_182 0 140 (dk_at dksX1_ask_2 13 rfl rfl)
theorem dX1_ask_64 : decode cX1_ask 64 = .ok (.iconst 3, 1) := dk_6 (dk_at dksX1_ask_2 16 rfl rfl)
theorem dX1_ask_65 : decode cX1_ask 65 = .ok (.ireturn, 1) := dk_172 (dk_at dksX1_ask_2 17 rfl rfl)
theorem dX1_ask_66 : decode cX1_ask 66 = .ok (.iconst 0, 1) := dk_3 (dk_at dksX1_ask_2 18 rfl rfl)
theorem dX1_ask_67 : decode cX1_ask 67 = .ok (.istore 6, 2) := dk_54 6 (dk_at dksX1_ask_2 19 rfl rfl)
theorem dX1_ask_69 : decode cX1_ask 69 = .ok (.iload 5, 2) := dk_21 5 (dk_at dksX1_ask_2 21 rfl rfl)
theorem dX1_ask_71 : decode cX1_ask 71 = .ok (.istore 7, 2) := dk_54 7 (dk_at dksX1_ask_3 0 rfl rfl)
theorem dX1_ask_73 : decode cX1_ask 73 = .ok (.aload_n 0, 1) := dk_42 (dk_at dksX1_ask_3 2 rfl rfl)
theorem dX1_ask_74 : decode cX1_ask 74 = .ok (.iload 7, 2) := dk_21 7 (dk_at dksX1_ask_3 3 rfl rfl)
theorem dX1_ask_76 : decode cX1_ask 76 = .ok (.iload 4, 2) := dk_21 4 (dk_at dksX1_ask_3 5 rfl rfl)
theorem dX1_ask_78 : decode cX1_ask 78 = .ok (.invokevirtual 227, 3) := dk_182 0 227 (dk_at dksX1_ask_3 7 rfl rfl)
theorem dX1_ask_81 : decode cX1_ask 81 = .ok (.istore 8, 2) := dk_54 8 (dk_at dksX1_ask_3 10 rfl rfl)
theorem dX1_ask_83 : decode cX1_ask 83 = .ok (.iload 8, 2) := dk_21 8 (dk_at dksX1_ask_3 12 rfl rfl)
theorem dX1_ask_85 : decode cX1_ask 85 = .ok (.iload 7, 2) := dk_21 7 (dk_at dksX1_ask_3 14 rfl rfl)
theorem dX1_ask_87 : decode cX1_ask 87 = .ok (.if_icmp .eq 23, 3) := dk_159 0 23 (dk_at dksX1_ask_3 16 rfl rfl)
theorem dX1_ask_90 : decode cX1_ask 90 = .ok (.iinc 6 1, 3) := dk_132 6 1 (dk_at dksX1_ask_3 19 rfl rfl)
theorem dX1_ask_93 : decode cX1_ask 93 = .ok (.iload 8, 2) := dk_21 8 (dk_at dksX1_ask_3 22 rfl rfl)
theorem dX1_ask_95 : decode cX1_ask 95 = .ok (.istore 7, 2) := dk_54 7 (dk_at dksX1_ask_4 0 rfl rfl)
theorem dX1_ask_97 : decode cX1_ask 97 = .ok (.aload_n 0, 1) := dk_42 (dk_at dksX1_ask_4 2 rfl rfl)
theorem dX1_ask_98 : decode cX1_ask 98 = .ok (.iload 7, 2) := dk_21 7 (dk_at dksX1_ask_4 3 rfl rfl)
theorem dX1_ask_100 : decode cX1_ask 100 = .ok (.iload 4, 2) := dk_21 4 (dk_at dksX1_ask_4 5 rfl rfl)
theorem dX1_ask_102 : decode cX1_ask 102 = .ok (.invokevirtual 227, 3) := dk_182 0 227 (dk_at dksX1_ask_4 7 rfl rfl)
theorem dX1_ask_105 : decode cX1_ask 105 = .ok (.istore 8, 2) := dk_54 8 (dk_at dksX1_ask_4 10 rfl rfl)
theorem dX1_ask_107 : decode cX1_ask 107 = .ok (.goto (-24), 3) := dk_167 255 232 (dk_at dksX1_ask_4 12 rfl rfl)
theorem dX1_ask_110 : decode cX1_ask 110 = .ok (.iload 6, 2) := dk_21 6 (dk_at dksX1_ask_4 15 rfl rfl)
theorem dX1_ask_112 : decode cX1_ask 112 = .ok (.ifCond .le 18, 3) := dk_158 0 18 (dk_at dksX1_ask_4 17 rfl rfl)
theorem dX1_ask_115 : decode cX1_ask 115 = .ok (.aload_n 3, 1) := dk_45 (dk_at dksX1_ask_4 20 rfl rfl)
theorem dX1_ask_116 : decode cX1_ask 116 = .ok (.iload 5, 2) := dk_21 5 (dk_at dksX1_ask_4 21 rfl rfl)
theorem dX1_ask_118 : decode cX1_ask 118 = .ok (.aload_n 0, 1) := dk_42 (dk_at dksX1_ask_4 23 rfl rfl)
theorem dX1_ask_119 : decode cX1_ask 119 = .ok (.getfield 39, 3) := dk_180 0 39 (dk_at dksX1_ask_5 0 rfl rfl)
theorem dX1_ask_122 : decode cX1_ask 122 = .ok (.iload 5, 2) := dk_21 5 (dk_at dksX1_ask_5 3 rfl rfl)
theorem dX1_ask_124 : decode cX1_ask 124 = .ok (.invokevirtual 211, 3) := dk_182 0 211 (dk_at dksX1_ask_5 5 rfl rfl)
theorem dX1_ask_127 : decode cX1_ask 127 = .ok (.invokevirtual 231, 3) := dk_182 0 231 (dk_at dksX1_ask_5 8 rfl rfl)
theorem dX1_ask_130 : decode cX1_ask 130 = .ok (.aload_n 0, 1) := dk_42 (dk_at dksX1_ask_5 11 rfl rfl)
theorem dX1_ask_131 : decode cX1_ask 131 = .ok (.dup, 1) := dk_89 (dk_at dksX1_ask_5 12 rfl rfl)
theorem dX1_ask_132 : decode cX1_ask 132 = .ok (.getfield 234, 3) := dk_180 0 234 (dk_at dksX1_ask_5 13 rfl rfl)
theorem dX1_ask_135 : decode cX1_ask 135 = .ok (.iload 6, 2) := dk_21 6 (dk_at dksX1_ask_5 16 rfl rfl)
theorem dX1_ask_137 : decode cX1_ask 137 = .ok (.iadd, 1) := dk_96 (dk_at dksX1_ask_5 18 rfl rfl)
theorem dX1_ask_138 : decode cX1_ask 138 = .ok (.putfield 234, 3) := dk_181 0 234 (dk_at dksX1_ask_5 19 rfl rfl)
theorem dX1_ask_141 : decode cX1_ask 141 = .ok (.iload 6, 2) := dk_21 6 (dk_at dksX1_ask_5 22 rfl rfl)
theorem dX1_ask_143 : decode cX1_ask 143 = .ok (.ireturn, 1) := dk_172 (dk_at dksX1_ask_6 0 rfl rfl)
abbrev cX1_mustBeClient : ByteArray := prog_1_method_14_code
def yX1_mustBeClient : MethodName := ⟨RX1, "mustBeClient", "(I)LSplitpointer$Client;"⟩
def dkwX1_mustBeClient_0 : List UInt8 := [27, 3, 5, 184, 0, 74, 184, 0, 85, 42, 180, 0, 53, 27, 50, 176]
abbrev dktX1_mustBeClient_0 : List UInt8 := dkwX1_mustBeClient_0 ++ []
theorem dksX1_mustBeClient_0 : cX1_mustBeClient.data.toList.drop 0 = dktX1_mustBeClient_0 := by decide +kernel
theorem dX1_mustBeClient_0 : decode cX1_mustBeClient 0 = .ok (.iload_n 1, 1) := dk_27 (dk_at dksX1_mustBeClient_0 0 rfl rfl)
theorem dX1_mustBeClient_1 : decode cX1_mustBeClient 1 = .ok (.iconst 0, 1) := dk_3 (dk_at dksX1_mustBeClient_0 1 rfl rfl)
theorem dX1_mustBeClient_2 : decode cX1_mustBeClient 2 = .ok (.iconst 2, 1) := dk_5 (dk_at dksX1_mustBeClient_0 2 rfl rfl)
theorem dX1_mustBeClient_3 : decode cX1_mustBeClient 3 = .ok (.invokestatic 74, 3) := dk_184 0 74 (dk_at dksX1_mustBeClient_0 3 rfl rfl)
theorem dX1_mustBeClient_6 : decode cX1_mustBeClient 6 = .ok (.invokestatic 85, 3) := dk_184 0 85 (dk_at dksX1_mustBeClient_0 6 rfl rfl)
theorem dX1_mustBeClient_9 : decode cX1_mustBeClient 9 = .ok (.aload_n 0, 1) := dk_42 (dk_at dksX1_mustBeClient_0 9 rfl rfl)
theorem dX1_mustBeClient_10 : decode cX1_mustBeClient 10 = .ok (.getfield 53, 3) := dk_180 0 53 (dk_at dksX1_mustBeClient_0 10 rfl rfl)
theorem dX1_mustBeClient_13 : decode cX1_mustBeClient 13 = .ok (.iload_n 1, 1) := dk_27 (dk_at dksX1_mustBeClient_0 13 rfl rfl)
theorem dX1_mustBeClient_14 : decode cX1_mustBeClient 14 = .ok (.aaload, 1) := dk_50 (dk_at dksX1_mustBeClient_0 14 rfl rfl)
theorem dX1_mustBeClient_15 : decode cX1_mustBeClient 15 = .ok (.areturn, 1) := dk_176 (dk_at dksX1_mustBeClient_0 15 rfl rfl)
abbrev cX1_forwarded : ByteArray := prog_1_method_30_code
def yX1_forwarded : MethodName := ⟨RX1, "forwarded", "(II)I"⟩
def dkwX1_forwarded_2 : List UInt8 := [162, 0, 8, 21, 5, 167, 0, 5, 21, 4, 172]
abbrev dktX1_forwarded_2 : List UInt8 := dkwX1_forwarded_2 ++ []
def dkwX1_forwarded_1 : List UInt8 := [154, 0, 6, 21, 4, 172, 28, 4, 29, 120, 112, 54, 5, 21, 5, 27, 164, 0, 15, 21, 5, 21, 4]
abbrev dktX1_forwarded_1 : List UInt8 := dkwX1_forwarded_1 ++ dktX1_forwarded_2
def dkwX1_forwarded_0 : List UInt8 := [42, 180, 0, 39, 27, 182, 0, 211, 62, 28, 5, 29, 120, 112, 54, 4, 21, 4, 27, 159, 0, 7, 29]
abbrev dktX1_forwarded_0 : List UInt8 := dkwX1_forwarded_0 ++ dktX1_forwarded_1
theorem dksX1_forwarded_0 : cX1_forwarded.data.toList.drop 0 = dktX1_forwarded_0 := by decide +kernel
theorem dksX1_forwarded_1 : cX1_forwarded.data.toList.drop 23 = dktX1_forwarded_1 := dk_seg dksX1_forwarded_0 23 rfl rfl
theorem dksX1_forwarded_2 : cX1_forwarded.data.toList.drop 46 = dktX1_forwarded_2 := dk_seg dksX1_forwarded_1 23 rfl rfl
theorem dX1_forwarded_0 : decode cX1_forwarded 0 = .ok (.aload_n 0, 1) := dk_42 (dk_at dksX1_forwarded_0 0 rfl rfl)
theorem dX1_forwarded_1 : decode cX1_forwarded 1 = .ok (.getfield 39, 3) := dk_180 0 39 (dk_at dksX1_forwarded_0 1 rfl rfl)
theorem dX1_forwarded_4 : decode cX1_forwarded 4 = .ok (.iload_n 1, 1) := dk_27 (dk_at dksX1_forwarded_0 4 rfl rfl)
theorem dX1_forwarded_5 : decode cX1_forwarded 5 = .ok (.invokevirtual 211, 3) := dk_182 0 211 (dk_at dksX1_forwarded_0 5 rfl rfl)
theorem dX1_forwarded_8 : decode cX1_forwarded 8 = .ok (.istore_n 3, 1) := dk_62 (dk_at dksX1_forwarded_0 8 rfl rfl)
theorem dX1_forwarded_9 : decode cX1_forwarded 9 = .ok (.iload_n 2, 1) := dk_28 (dk_at dksX1_forwarded_0 9 rfl rfl)
theorem dX1_forwarded_10 : decode cX1_forwarded 10 = .ok (.iconst 2, 1) := dk_5 (dk_at dksX1_forwarded_0 10 rfl rfl)
theorem dX1_forwarded_11 : decode cX1_forwarded 11 = .ok (.iload_n 3, 1) := dk_29 (dk_at dksX1_forwarded_0 11 rfl rfl)
theorem dX1_forwarded_12 : decode cX1_forwarded 12 = .ok (.ishl, 1) := dk_120 (dk_at dksX1_forwarded_0 12 rfl rfl)
theorem dX1_forwarded_13 : decode cX1_forwarded 13 = .ok (.irem, 1) := dk_112 (dk_at dksX1_forwarded_0 13 rfl rfl)
theorem dX1_forwarded_14 : decode cX1_forwarded 14 = .ok (.istore 4, 2) := dk_54 4 (dk_at dksX1_forwarded_0 14 rfl rfl)
theorem dX1_forwarded_16 : decode cX1_forwarded 16 = .ok (.iload 4, 2) := dk_21 4 (dk_at dksX1_forwarded_0 16 rfl rfl)
theorem dX1_forwarded_18 : decode cX1_forwarded 18 = .ok (.iload_n 1, 1) := dk_27 (dk_at dksX1_forwarded_0 18 rfl rfl)
theorem dX1_forwarded_19 : decode cX1_forwarded 19 = .ok (.if_icmp .eq 7, 3) := dk_159 0 7 (dk_at dksX1_forwarded_0 19 rfl rfl)
theorem dX1_forwarded_22 : decode cX1_forwarded 22 = .ok (.iload_n 3, 1) := dk_29 (dk_at dksX1_forwarded_0 22 rfl rfl)
theorem dX1_forwarded_23 : decode cX1_forwarded 23 = .ok (.ifCond .ne 6, 3) := dk_154 0 6 (dk_at dksX1_forwarded_1 0 rfl rfl)
theorem dX1_forwarded_26 : decode cX1_forwarded 26 = .ok (.iload 4, 2) := dk_21 4 (dk_at dksX1_forwarded_1 3 rfl rfl)
theorem dX1_forwarded_28 : decode cX1_forwarded 28 = .ok (.ireturn, 1) := dk_172 (dk_at dksX1_forwarded_1 5 rfl rfl)
theorem dX1_forwarded_29 : decode cX1_forwarded 29 = .ok (.iload_n 2, 1) := dk_28 (dk_at dksX1_forwarded_1 6 rfl rfl)
theorem dX1_forwarded_30 : decode cX1_forwarded 30 = .ok (.iconst 1, 1) := dk_4 (dk_at dksX1_forwarded_1 7 rfl rfl)
theorem dX1_forwarded_31 : decode cX1_forwarded 31 = .ok (.iload_n 3, 1) := dk_29 (dk_at dksX1_forwarded_1 8 rfl rfl)
theorem dX1_forwarded_32 : decode cX1_forwarded 32 = .ok (.ishl, 1) := dk_120 (dk_at dksX1_forwarded_1 9 rfl rfl)
theorem dX1_forwarded_33 : decode cX1_forwarded 33 = .ok (.irem, 1) := dk_112 (dk_at dksX1_forwarded_1 10 rfl rfl)
theorem dX1_forwarded_34 : decode cX1_forwarded 34 = .ok (.istore 5, 2) := dk_54 5 (dk_at dksX1_forwarded_1 11 rfl rfl)
theorem dX1_forwarded_36 : decode cX1_forwarded 36 = .ok (.iload 5, 2) := dk_21 5 (dk_at dksX1_forwarded_1 13 rfl rfl)
theorem dX1_forwarded_38 : decode cX1_forwarded 38 = .ok (.iload_n 1, 1) := dk_27 (dk_at dksX1_forwarded_1 15 rfl rfl)
theorem dX1_forwarded_39 : decode cX1_forwarded 39 = .ok (.if_icmp .le 15, 3) := dk_164 0 15 (dk_at dksX1_forwarded_1 16 rfl rfl)
theorem dX1_forwarded_42 : decode cX1_forwarded 42 = .ok (.iload 5, 2) := dk_21 5 (dk_at dksX1_forwarded_1 19 rfl rfl)
theorem dX1_forwarded_44 : decode cX1_forwarded 44 = .ok (.iload 4, 2) := dk_21 4 (dk_at dksX1_forwarded_1 21 rfl rfl)
theorem dX1_forwarded_46 : decode cX1_forwarded 46 = .ok (.if_icmp .ge 8, 3) := dk_162 0 8 (dk_at dksX1_forwarded_2 0 rfl rfl)
theorem dX1_forwarded_49 : decode cX1_forwarded 49 = .ok (.iload 5, 2) := dk_21 5 (dk_at dksX1_forwarded_2 3 rfl rfl)
theorem dX1_forwarded_51 : decode cX1_forwarded 51 = .ok (.goto 5, 3) := dk_167 0 5 (dk_at dksX1_forwarded_2 5 rfl rfl)
theorem dX1_forwarded_54 : decode cX1_forwarded 54 = .ok (.iload 4, 2) := dk_21 4 (dk_at dksX1_forwarded_2 8 rfl rfl)
theorem dX1_forwarded_56 : decode cX1_forwarded 56 = .ok (.ireturn, 1) := dk_172 (dk_at dksX1_forwarded_2 10 rfl rfl)
abbrev cX1_get : ByteArray := prog_1_method_36_code
def yX1_get : MethodName := ⟨RX1, "get", "(I)I"⟩
def dkwX1_get_1 : List UInt8 := [180, 0, 162, 172]
abbrev dktX1_get_1 : List UInt8 := dkwX1_get_1 ++ []
def dkwX1_get_0 : List UInt8 := [27, 184, 0, 168, 42, 180, 0, 39, 27, 182, 0, 157, 77, 44, 199, 0, 7, 2, 167, 0, 7, 44]
abbrev dktX1_get_0 : List UInt8 := dkwX1_get_0 ++ dktX1_get_1
theorem dksX1_get_0 : cX1_get.data.toList.drop 0 = dktX1_get_0 := by decide +kernel
theorem dksX1_get_1 : cX1_get.data.toList.drop 22 = dktX1_get_1 := dk_seg dksX1_get_0 22 rfl rfl
theorem dX1_get_0 : decode cX1_get 0 = .ok (.iload_n 1, 1) := dk_27 (dk_at dksX1_get_0 0 rfl rfl)
theorem dX1_get_1 : decode cX1_get 1 = .ok (.invokestatic 168, 3) := dk_184 0 168 (dk_at dksX1_get_0 1 rfl rfl)
theorem dX1_get_4 : decode cX1_get 4 = .ok (.aload_n 0, 1) := dk_42 (dk_at dksX1_get_0 4 rfl rfl)
theorem dX1_get_5 : decode cX1_get 5 = .ok (.getfield 39, 3) := dk_180 0 39 (dk_at dksX1_get_0 5 rfl rfl)
theorem dX1_get_8 : decode cX1_get 8 = .ok (.iload_n 1, 1) := dk_27 (dk_at dksX1_get_0 8 rfl rfl)
theorem dX1_get_9 : decode cX1_get 9 = .ok (.invokevirtual 157, 3) := dk_182 0 157 (dk_at dksX1_get_0 9 rfl rfl)
theorem dX1_get_12 : decode cX1_get 12 = .ok (.astore_n 2, 1) := dk_77 (dk_at dksX1_get_0 12 rfl rfl)
theorem dX1_get_13 : decode cX1_get 13 = .ok (.aload_n 2, 1) := dk_44 (dk_at dksX1_get_0 13 rfl rfl)
theorem dX1_get_14 : decode cX1_get 14 = .ok (.ifnonnull 7, 3) := dk_199 0 7 (dk_at dksX1_get_0 14 rfl rfl)
theorem dX1_get_17 : decode cX1_get 17 = .ok (.iconst (-1), 1) := dk_2 (dk_at dksX1_get_0 17 rfl rfl)
theorem dX1_get_18 : decode cX1_get 18 = .ok (.goto 7, 3) := dk_167 0 7 (dk_at dksX1_get_0 18 rfl rfl)
theorem dX1_get_21 : decode cX1_get 21 = .ok (.aload_n 2, 1) := dk_44 (dk_at dksX1_get_0 21 rfl rfl)
theorem dX1_get_22 : decode cX1_get 22 = .ok (.getfield 162, 3) := dk_180 0 162 (dk_at dksX1_get_1 0 rfl rfl)
theorem dX1_get_25 : decode cX1_get 25 = .ok (.ireturn, 1) := dk_172 (dk_at dksX1_get_1 3 rfl rfl)
abbrev cX1_ofKey : ByteArray := prog_1_method_38_code
def yX1_ofKey : MethodName := ⟨RX1, "ofKey", "(II)I"⟩
def dkwX1_ofKey_1 : List UInt8 := [3, 184, 0, 78, 42, 27, 28, 182, 1, 8, 172]
abbrev dktX1_ofKey_1 : List UInt8 := dkwX1_ofKey_1 ++ []
def dkwX1_ofKey_0 : List UInt8 := [27, 3, 17, 39, 15, 184, 0, 74, 153, 0, 16, 28, 3, 8, 184, 0, 74, 153, 0, 7, 4, 167, 0, 4]
abbrev dktX1_ofKey_0 : List UInt8 := dkwX1_ofKey_0 ++ dktX1_ofKey_1
theorem dksX1_ofKey_0 : cX1_ofKey.data.toList.drop 0 = dktX1_ofKey_0 := by decide +kernel
theorem dksX1_ofKey_1 : cX1_ofKey.data.toList.drop 24 = dktX1_ofKey_1 := dk_seg dksX1_ofKey_0 24 rfl rfl
theorem dX1_ofKey_0 : decode cX1_ofKey 0 = .ok (.iload_n 1, 1) := dk_27 (dk_at dksX1_ofKey_0 0 rfl rfl)
theorem dX1_ofKey_1 : decode cX1_ofKey 1 = .ok (.iconst 0, 1) := dk_3 (dk_at dksX1_ofKey_0 1 rfl rfl)
theorem dX1_ofKey_2 : decode cX1_ofKey 2 = .ok (.sipush 9999, 3) := dk_17 39 15 (dk_at dksX1_ofKey_0 2 rfl rfl)
theorem dX1_ofKey_5 : decode cX1_ofKey 5 = .ok (.invokestatic 74, 3) := dk_184 0 74 (dk_at dksX1_ofKey_0 5 rfl rfl)
theorem dX1_ofKey_8 : decode cX1_ofKey 8 = .ok (.ifCond .eq 16, 3) := dk_153 0 16 (dk_at dksX1_ofKey_0 8 rfl rfl)
theorem dX1_ofKey_11 : decode cX1_ofKey 11 = .ok (.iload_n 2, 1) := dk_28 (dk_at dksX1_ofKey_0 11 rfl rfl)
theorem dX1_ofKey_12 : decode cX1_ofKey 12 = .ok (.iconst 0, 1) := dk_3 (dk_at dksX1_ofKey_0 12 rfl rfl)
theorem dX1_ofKey_13 : decode cX1_ofKey 13 = .ok (.iconst 5, 1) := dk_8 (dk_at dksX1_ofKey_0 13 rfl rfl)
theorem dX1_ofKey_14 : decode cX1_ofKey 14 = .ok (.invokestatic 74, 3) := dk_184 0 74 (dk_at dksX1_ofKey_0 14 rfl rfl)
theorem dX1_ofKey_17 : decode cX1_ofKey 17 = .ok (.ifCond .eq 7, 3) := dk_153 0 7 (dk_at dksX1_ofKey_0 17 rfl rfl)
theorem dX1_ofKey_20 : decode cX1_ofKey 20 = .ok (.iconst 1, 1) := dk_4 (dk_at dksX1_ofKey_0 20 rfl rfl)
theorem dX1_ofKey_21 : decode cX1_ofKey 21 = .ok (.goto 4, 3) := dk_167 0 4 (dk_at dksX1_ofKey_0 21 rfl rfl)
theorem dX1_ofKey_24 : decode cX1_ofKey 24 = .ok (.iconst 0, 1) := dk_3 (dk_at dksX1_ofKey_1 0 rfl rfl)
theorem dX1_ofKey_25 : decode cX1_ofKey 25 = .ok (.invokestatic 78, 3) := dk_184 0 78 (dk_at dksX1_ofKey_1 1 rfl rfl)
theorem dX1_ofKey_28 : decode cX1_ofKey 28 = .ok (.aload_n 0, 1) := dk_42 (dk_at dksX1_ofKey_1 4 rfl rfl)
theorem dX1_ofKey_29 : decode cX1_ofKey 29 = .ok (.iload_n 1, 1) := dk_27 (dk_at dksX1_ofKey_1 5 rfl rfl)
theorem dX1_ofKey_30 : decode cX1_ofKey 30 = .ok (.iload_n 2, 1) := dk_28 (dk_at dksX1_ofKey_1 6 rfl rfl)
theorem dX1_ofKey_31 : decode cX1_ofKey 31 = .ok (.invokevirtual 264, 3) := dk_182 1 8 (dk_at dksX1_ofKey_1 7 rfl rfl)
theorem dX1_ofKey_34 : decode cX1_ofKey 34 = .ok (.ireturn, 1) := dk_172 (dk_at dksX1_ofKey_1 10 rfl rfl)
abbrev cX1_ofKeyNow : ByteArray := prog_1_method_37_code
def yX1_ofKeyNow : MethodName := ⟨RX1, "ofKeyNow", "(II)I"⟩
def dkwX1_ofKeyNow_5 : List UInt8 := [172, 25, 5, 199, 0, 7, 2, 167, 0, 9, 25, 5, 27, 184, 0, 201, 172]
abbrev dktX1_ofKeyNow_5 : List UInt8 := dkwX1_ofKeyNow_5 ++ []
def dkwX1_ofKeyNow_4 : List UInt8 := [25, 4, 29, 182, 0, 191, 184, 1, 1, 172, 25, 5, 199, 0, 7, 2, 167, 0, 8, 25, 5, 180, 1, 5]
abbrev dktX1_ofKeyNow_4 : List UInt8 := dkwX1_ofKeyNow_4 ++ dktX1_ofKeyNow_5
def dkwX1_ofKeyNow_3 : List UInt8 := [29, 172, 42, 180, 0, 39, 180, 0, 117, 27, 182, 0, 253, 172, 42, 180, 0, 39, 29, 182, 1, 0, 172]
abbrev dktX1_ofKeyNow_3 : List UInt8 := dkwX1_ofKeyNow_3 ++ dktX1_ofKeyNow_4
def dkwX1_ofKeyNow_2 : List UInt8 := [170, 0, 0, 0, 81, 0, 0, 0, 0, 0, 0, 0, 4, 0, 0, 0, 33, 0, 0, 0, 35, 0, 0, 0, 47, 0, 0, 0, 56, 0, 0, 0, 66]
abbrev dktX1_ofKeyNow_2 : List UInt8 := dkwX1_ofKeyNow_2 ++ dktX1_ofKeyNow_3
def dkwX1_ofKeyNow_1 : List UInt8 := [27, 182, 0, 249, 58, 5, 28]
abbrev dktX1_ofKeyNow_1 : List UInt8 := dkwX1_ofKeyNow_1 ++ dktX1_ofKeyNow_2
def dkwX1_ofKeyNow_0 : List UInt8 := [42, 180, 0, 39, 180, 0, 117, 27, 182, 0, 187, 62, 42, 180, 0, 39, 27, 182, 0, 183, 58, 4, 25, 4]
abbrev dktX1_ofKeyNow_0 : List UInt8 := dkwX1_ofKeyNow_0 ++ dktX1_ofKeyNow_1
theorem dksX1_ofKeyNow_0 : cX1_ofKeyNow.data.toList.drop 0 = dktX1_ofKeyNow_0 := by decide +kernel
theorem dksX1_ofKeyNow_1 : cX1_ofKeyNow.data.toList.drop 24 = dktX1_ofKeyNow_1 := dk_seg dksX1_ofKeyNow_0 24 rfl rfl
theorem dksX1_ofKeyNow_2 : cX1_ofKeyNow.data.toList.drop 31 = dktX1_ofKeyNow_2 := dk_seg dksX1_ofKeyNow_1 7 rfl rfl
theorem dksX1_ofKeyNow_3 : cX1_ofKeyNow.data.toList.drop 64 = dktX1_ofKeyNow_3 := dk_seg dksX1_ofKeyNow_2 33 rfl rfl
theorem dksX1_ofKeyNow_4 : cX1_ofKeyNow.data.toList.drop 87 = dktX1_ofKeyNow_4 := dk_seg dksX1_ofKeyNow_3 23 rfl rfl
theorem dksX1_ofKeyNow_5 : cX1_ofKeyNow.data.toList.drop 111 = dktX1_ofKeyNow_5 := dk_seg dksX1_ofKeyNow_4 24 rfl rfl
theorem dX1_ofKeyNow_0 : decode cX1_ofKeyNow 0 = .ok (.aload_n 0, 1) := dk_42 (dk_at dksX1_ofKeyNow_0 0 rfl rfl)
theorem dX1_ofKeyNow_1 : decode cX1_ofKeyNow 1 = .ok (.getfield 39, 3) := dk_180 0 39 (dk_at dksX1_ofKeyNow_0 1 rfl rfl)
theorem dX1_ofKeyNow_4 : decode cX1_ofKeyNow 4 = .ok (.getfield 117, 3) := dk_180 0 117 (dk_at dksX1_ofKeyNow_0 4 rfl rfl)
theorem dX1_ofKeyNow_7 : decode cX1_ofKeyNow 7 = .ok (.iload_n 1, 1) := dk_27 (dk_at dksX1_ofKeyNow_0 7 rfl rfl)
theorem dX1_ofKeyNow_8 : decode cX1_ofKeyNow 8 = .ok (.invokevirtual 187, 3) := dk_182 0 187 (dk_at dksX1_ofKeyNow_0 8 rfl rfl)
theorem dX1_ofKeyNow_11 : decode cX1_ofKeyNow 11 = .ok (.istore_n 3, 1) := dk_62 (dk_at dksX1_ofKeyNow_0 11 rfl rfl)
theorem dX1_ofKeyNow_12 : decode cX1_ofKeyNow 12 = .ok (.aload_n 0, 1) := dk_42 (dk_at dksX1_ofKeyNow_0 12 rfl rfl)
theorem dX1_ofKeyNow_13 : decode cX1_ofKeyNow 13 = .ok (.getfield 39, 3) := dk_180 0 39 (dk_at dksX1_ofKeyNow_0 13 rfl rfl)
theorem dX1_ofKeyNow_16 : decode cX1_ofKeyNow 16 = .ok (.iload_n 1, 1) := dk_27 (dk_at dksX1_ofKeyNow_0 16 rfl rfl)
theorem dX1_ofKeyNow_17 : decode cX1_ofKeyNow 17 = .ok (.invokevirtual 183, 3) := dk_182 0 183 (dk_at dksX1_ofKeyNow_0 17 rfl rfl)
theorem dX1_ofKeyNow_20 : decode cX1_ofKeyNow 20 = .ok (.astore 4, 2) := dk_58 4 (dk_at dksX1_ofKeyNow_0 20 rfl rfl)
theorem dX1_ofKeyNow_22 : decode cX1_ofKeyNow 22 = .ok (.aload 4, 2) := dk_25 4 (dk_at dksX1_ofKeyNow_0 22 rfl rfl)
theorem dX1_ofKeyNow_24 : decode cX1_ofKeyNow 24 = .ok (.iload_n 1, 1) := dk_27 (dk_at dksX1_ofKeyNow_1 0 rfl rfl)
theorem dX1_ofKeyNow_25 : decode cX1_ofKeyNow 25 = .ok (.invokevirtual 249, 3) := dk_182 0 249 (dk_at dksX1_ofKeyNow_1 1 rfl rfl)
theorem dX1_ofKeyNow_28 : decode cX1_ofKeyNow 28 = .ok (.astore 5, 2) := dk_58 5 (dk_at dksX1_ofKeyNow_1 4 rfl rfl)
theorem dX1_ofKeyNow_30 : decode cX1_ofKeyNow 30 = .ok (.iload_n 2, 1) := dk_28 (dk_at dksX1_ofKeyNow_1 6 rfl rfl)
theorem dX1_ofKeyNow_31 : decode cX1_ofKeyNow 31 = .ok (.tableswitch 81 0 4 #[33, 35, 47, 56, 66], 33) := by decide +kernel
theorem dX1_ofKeyNow_64 : decode cX1_ofKeyNow 64 = .ok (.iload_n 3, 1) := dk_29 (dk_at dksX1_ofKeyNow_3 0 rfl rfl)
theorem dX1_ofKeyNow_65 : decode cX1_ofKeyNow 65 = .ok (.ireturn, 1) := dk_172 (dk_at dksX1_ofKeyNow_3 1 rfl rfl)
theorem dX1_ofKeyNow_66 : decode cX1_ofKeyNow 66 = .ok (.aload_n 0, 1) := dk_42 (dk_at dksX1_ofKeyNow_3 2 rfl rfl)
theorem dX1_ofKeyNow_67 : decode cX1_ofKeyNow 67 = .ok (.getfield 39, 3) := dk_180 0 39 (dk_at dksX1_ofKeyNow_3 3 rfl rfl)
theorem dX1_ofKeyNow_70 : decode cX1_ofKeyNow 70 = .ok (.getfield 117, 3) := dk_180 0 117 (dk_at dksX1_ofKeyNow_3 6 rfl rfl)
theorem dX1_ofKeyNow_73 : decode cX1_ofKeyNow 73 = .ok (.iload_n 1, 1) := dk_27 (dk_at dksX1_ofKeyNow_3 9 rfl rfl)
theorem dX1_ofKeyNow_74 : decode cX1_ofKeyNow 74 = .ok (.invokevirtual 253, 3) := dk_182 0 253 (dk_at dksX1_ofKeyNow_3 10 rfl rfl)
theorem dX1_ofKeyNow_77 : decode cX1_ofKeyNow 77 = .ok (.ireturn, 1) := dk_172 (dk_at dksX1_ofKeyNow_3 13 rfl rfl)
theorem dX1_ofKeyNow_78 : decode cX1_ofKeyNow 78 = .ok (.aload_n 0, 1) := dk_42 (dk_at dksX1_ofKeyNow_3 14 rfl rfl)
theorem dX1_ofKeyNow_79 : decode cX1_ofKeyNow 79 = .ok (.getfield 39, 3) := dk_180 0 39 (dk_at dksX1_ofKeyNow_3 15 rfl rfl)
theorem dX1_ofKeyNow_82 : decode cX1_ofKeyNow 82 = .ok (.iload_n 3, 1) := dk_29 (dk_at dksX1_ofKeyNow_3 18 rfl rfl)
theorem dX1_ofKeyNow_83 : decode cX1_ofKeyNow 83 = .ok (.invokevirtual 256, 3) := dk_182 1 0 (dk_at dksX1_ofKeyNow_3 19 rfl rfl)
theorem dX1_ofKeyNow_86 : decode cX1_ofKeyNow 86 = .ok (.ireturn, 1) := dk_172 (dk_at dksX1_ofKeyNow_3 22 rfl rfl)
theorem dX1_ofKeyNow_87 : decode cX1_ofKeyNow 87 = .ok (.aload 4, 2) := dk_25 4 (dk_at dksX1_ofKeyNow_4 0 rfl rfl)
theorem dX1_ofKeyNow_89 : decode cX1_ofKeyNow 89 = .ok (.iload_n 3, 1) := dk_29 (dk_at dksX1_ofKeyNow_4 2 rfl rfl)
theorem dX1_ofKeyNow_90 : decode cX1_ofKeyNow 90 = .ok (.invokevirtual 191, 3) := dk_182 0 191 (dk_at dksX1_ofKeyNow_4 3 rfl rfl)
theorem dX1_ofKeyNow_93 : decode cX1_ofKeyNow 93 = .ok (.invokestatic 257, 3) := dk_184 1 1 (dk_at dksX1_ofKeyNow_4 6 rfl rfl)
theorem dX1_ofKeyNow_96 : decode cX1_ofKeyNow 96 = .ok (.ireturn, 1) := dk_172 (dk_at dksX1_ofKeyNow_4 9 rfl rfl)
theorem dX1_ofKeyNow_97 : decode cX1_ofKeyNow 97 = .ok (.aload 5, 2) := dk_25 5 (dk_at dksX1_ofKeyNow_4 10 rfl rfl)
theorem dX1_ofKeyNow_99 : decode cX1_ofKeyNow 99 = .ok (.ifnonnull 7, 3) := dk_199 0 7 (dk_at dksX1_ofKeyNow_4 12 rfl rfl)
theorem dX1_ofKeyNow_102 : decode cX1_ofKeyNow 102 = .ok (.iconst (-1), 1) := dk_2 (dk_at dksX1_ofKeyNow_4 15 rfl rfl)
theorem dX1_ofKeyNow_103 : decode cX1_ofKeyNow 103 = .ok (.goto 8, 3) := dk_167 0 8 (dk_at dksX1_ofKeyNow_4 16 rfl rfl)
theorem dX1_ofKeyNow_106 : decode cX1_ofKeyNow 106 = .ok (.aload 5, 2) := dk_25 5 (dk_at dksX1_ofKeyNow_4 19 rfl rfl)
theorem dX1_ofKeyNow_108 : decode cX1_ofKeyNow 108 = .ok (.getfield 261, 3) := dk_180 1 5 (dk_at dksX1_ofKeyNow_4 21 rfl rfl)
theorem dX1_ofKeyNow_111 : decode cX1_ofKeyNow 111 = .ok (.ireturn, 1) := dk_172 (dk_at dksX1_ofKeyNow_5 0 rfl rfl)
theorem dX1_ofKeyNow_112 : decode cX1_ofKeyNow 112 = .ok (.aload 5, 2) := dk_25 5 (dk_at dksX1_ofKeyNow_5 1 rfl rfl)
theorem dX1_ofKeyNow_114 : decode cX1_ofKeyNow 114 = .ok (.ifnonnull 7, 3) := dk_199 0 7 (dk_at dksX1_ofKeyNow_5 3 rfl rfl)
theorem dX1_ofKeyNow_117 : decode cX1_ofKeyNow 117 = .ok (.iconst (-1), 1) := dk_2 (dk_at dksX1_ofKeyNow_5 6 rfl rfl)
theorem dX1_ofKeyNow_118 : decode cX1_ofKeyNow 118 = .ok (.goto 9, 3) := dk_167 0 9 (dk_at dksX1_ofKeyNow_5 7 rfl rfl)
theorem dX1_ofKeyNow_121 : decode cX1_ofKeyNow 121 = .ok (.aload 5, 2) := dk_25 5 (dk_at dksX1_ofKeyNow_5 10 rfl rfl)
theorem dX1_ofKeyNow_123 : decode cX1_ofKeyNow 123 = .ok (.iload_n 1, 1) := dk_27 (dk_at dksX1_ofKeyNow_5 12 rfl rfl)
theorem dX1_ofKeyNow_124 : decode cX1_ofKeyNow 124 = .ok (.invokestatic 201, 3) := dk_184 0 201 (dk_at dksX1_ofKeyNow_5 13 rfl rfl)
theorem dX1_ofKeyNow_127 : decode cX1_ofKeyNow 127 = .ok (.ireturn, 1) := dk_172 (dk_at dksX1_ofKeyNow_5 16 rfl rfl)
abbrev cX1_ofFile : ByteArray := prog_1_method_41_code
def yX1_ofFile : MethodName := ⟨RX1, "ofFile", "(I)I"⟩
def dkwX1_ofFile_0 : List UInt8 := [27, 3, 16, 21, 184, 0, 74, 184, 0, 78, 42, 27, 182, 1, 38, 172]
abbrev dktX1_ofFile_0 : List UInt8 := dkwX1_ofFile_0 ++ []
theorem dksX1_ofFile_0 : cX1_ofFile.data.toList.drop 0 = dktX1_ofFile_0 := by decide +kernel
theorem dX1_ofFile_0 : decode cX1_ofFile 0 = .ok (.iload_n 1, 1) := dk_27 (dk_at dksX1_ofFile_0 0 rfl rfl)
theorem dX1_ofFile_1 : decode cX1_ofFile 1 = .ok (.iconst 0, 1) := dk_3 (dk_at dksX1_ofFile_0 1 rfl rfl)
theorem dX1_ofFile_2 : decode cX1_ofFile 2 = .ok (.bipush 21, 2) := dk_16 21 (dk_at dksX1_ofFile_0 2 rfl rfl)
theorem dX1_ofFile_4 : decode cX1_ofFile 4 = .ok (.invokestatic 74, 3) := dk_184 0 74 (dk_at dksX1_ofFile_0 4 rfl rfl)
theorem dX1_ofFile_7 : decode cX1_ofFile 7 = .ok (.invokestatic 78, 3) := dk_184 0 78 (dk_at dksX1_ofFile_0 7 rfl rfl)
theorem dX1_ofFile_10 : decode cX1_ofFile 10 = .ok (.aload_n 0, 1) := dk_42 (dk_at dksX1_ofFile_0 10 rfl rfl)
theorem dX1_ofFile_11 : decode cX1_ofFile 11 = .ok (.iload_n 1, 1) := dk_27 (dk_at dksX1_ofFile_0 11 rfl rfl)
theorem dX1_ofFile_12 : decode cX1_ofFile 12 = .ok (.invokevirtual 294, 3) := dk_182 1 38 (dk_at dksX1_ofFile_0 12 rfl rfl)
theorem dX1_ofFile_15 : decode cX1_ofFile 15 = .ok (.ireturn, 1) := dk_172 (dk_at dksX1_ofFile_0 15 rfl rfl)
abbrev cX1_ofBucket : ByteArray := prog_1_method_43_code
def yX1_ofBucket : MethodName := ⟨RX1, "ofBucket", "(II)I"⟩
def dkwX1_ofBucket_0 : List UInt8 := [42, 27, 182, 1, 49, 87, 28, 3, 8, 184, 0, 74, 184, 0, 78, 42, 27, 28, 182, 1, 52, 172]
abbrev dktX1_ofBucket_0 : List UInt8 := dkwX1_ofBucket_0 ++ []
theorem dksX1_ofBucket_0 : cX1_ofBucket.data.toList.drop 0 = dktX1_ofBucket_0 := by decide +kernel
theorem dX1_ofBucket_0 : decode cX1_ofBucket 0 = .ok (.aload_n 0, 1) := dk_42 (dk_at dksX1_ofBucket_0 0 rfl rfl)
theorem dX1_ofBucket_1 : decode cX1_ofBucket 1 = .ok (.iload_n 1, 1) := dk_27 (dk_at dksX1_ofBucket_0 1 rfl rfl)
theorem dX1_ofBucket_2 : decode cX1_ofBucket 2 = .ok (.invokevirtual 305, 3) := dk_182 1 49 (dk_at dksX1_ofBucket_0 2 rfl rfl)
theorem dX1_ofBucket_5 : decode cX1_ofBucket 5 = .ok (.pop, 1) := dk_87 (dk_at dksX1_ofBucket_0 5 rfl rfl)
theorem dX1_ofBucket_6 : decode cX1_ofBucket 6 = .ok (.iload_n 2, 1) := dk_28 (dk_at dksX1_ofBucket_0 6 rfl rfl)
theorem dX1_ofBucket_7 : decode cX1_ofBucket 7 = .ok (.iconst 0, 1) := dk_3 (dk_at dksX1_ofBucket_0 7 rfl rfl)
theorem dX1_ofBucket_8 : decode cX1_ofBucket 8 = .ok (.iconst 5, 1) := dk_8 (dk_at dksX1_ofBucket_0 8 rfl rfl)
theorem dX1_ofBucket_9 : decode cX1_ofBucket 9 = .ok (.invokestatic 74, 3) := dk_184 0 74 (dk_at dksX1_ofBucket_0 9 rfl rfl)
theorem dX1_ofBucket_12 : decode cX1_ofBucket 12 = .ok (.invokestatic 78, 3) := dk_184 0 78 (dk_at dksX1_ofBucket_0 12 rfl rfl)
theorem dX1_ofBucket_15 : decode cX1_ofBucket 15 = .ok (.aload_n 0, 1) := dk_42 (dk_at dksX1_ofBucket_0 15 rfl rfl)
theorem dX1_ofBucket_16 : decode cX1_ofBucket 16 = .ok (.iload_n 1, 1) := dk_27 (dk_at dksX1_ofBucket_0 16 rfl rfl)
theorem dX1_ofBucket_17 : decode cX1_ofBucket 17 = .ok (.iload_n 2, 1) := dk_28 (dk_at dksX1_ofBucket_0 17 rfl rfl)
theorem dX1_ofBucket_18 : decode cX1_ofBucket 18 = .ok (.invokevirtual 308, 3) := dk_182 1 52 (dk_at dksX1_ofBucket_0 18 rfl rfl)
theorem dX1_ofBucket_21 : decode cX1_ofBucket 21 = .ok (.ireturn, 1) := dk_172 (dk_at dksX1_ofBucket_0 21 rfl rfl)
abbrev cX1_mustBeBucket : ByteArray := prog_1_method_12_code
def yX1_mustBeBucket : MethodName := ⟨RX1, "mustBeBucket", "(I)LSplitpointer$Bucket;"⟩
def dkwX1_mustBeBucket_1 : List UInt8 := [180, 0, 82, 27, 182, 0, 13, 192, 0, 88, 176]
abbrev dktX1_mustBeBucket_1 : List UInt8 := dkwX1_mustBeBucket_1 ++ []
def dkwX1_mustBeBucket_0 : List UInt8 := [27, 3, 42, 180, 0, 39, 180, 0, 82, 182, 0, 7, 4, 100, 184, 0, 74, 184, 0, 85, 42, 180, 0, 39]
abbrev dktX1_mustBeBucket_0 : List UInt8 := dkwX1_mustBeBucket_0 ++ dktX1_mustBeBucket_1
theorem dksX1_mustBeBucket_0 : cX1_mustBeBucket.data.toList.drop 0 = dktX1_mustBeBucket_0 := by decide +kernel
theorem dksX1_mustBeBucket_1 : cX1_mustBeBucket.data.toList.drop 24 = dktX1_mustBeBucket_1 := dk_seg dksX1_mustBeBucket_0 24 rfl rfl
theorem dX1_mustBeBucket_0 : decode cX1_mustBeBucket 0 = .ok (.iload_n 1, 1) := dk_27 (dk_at dksX1_mustBeBucket_0 0 rfl rfl)
theorem dX1_mustBeBucket_1 : decode cX1_mustBeBucket 1 = .ok (.iconst 0, 1) := dk_3 (dk_at dksX1_mustBeBucket_0 1 rfl rfl)
theorem dX1_mustBeBucket_2 : decode cX1_mustBeBucket 2 = .ok (.aload_n 0, 1) := dk_42 (dk_at dksX1_mustBeBucket_0 2 rfl rfl)
theorem dX1_mustBeBucket_3 : decode cX1_mustBeBucket 3 = .ok (.getfield 39, 3) := dk_180 0 39 (dk_at dksX1_mustBeBucket_0 3 rfl rfl)
theorem dX1_mustBeBucket_6 : decode cX1_mustBeBucket 6 = .ok (.getfield 82, 3) := dk_180 0 82 (dk_at dksX1_mustBeBucket_0 6 rfl rfl)
theorem dX1_mustBeBucket_9 : decode cX1_mustBeBucket 9 = .ok (.invokevirtual 7, 3) := dk_182 0 7 (dk_at dksX1_mustBeBucket_0 9 rfl rfl)
theorem dX1_mustBeBucket_12 : decode cX1_mustBeBucket 12 = .ok (.iconst 1, 1) := dk_4 (dk_at dksX1_mustBeBucket_0 12 rfl rfl)
theorem dX1_mustBeBucket_13 : decode cX1_mustBeBucket 13 = .ok (.isub, 1) := dk_100 (dk_at dksX1_mustBeBucket_0 13 rfl rfl)
theorem dX1_mustBeBucket_14 : decode cX1_mustBeBucket 14 = .ok (.invokestatic 74, 3) := dk_184 0 74 (dk_at dksX1_mustBeBucket_0 14 rfl rfl)
theorem dX1_mustBeBucket_17 : decode cX1_mustBeBucket 17 = .ok (.invokestatic 85, 3) := dk_184 0 85 (dk_at dksX1_mustBeBucket_0 17 rfl rfl)
theorem dX1_mustBeBucket_20 : decode cX1_mustBeBucket 20 = .ok (.aload_n 0, 1) := dk_42 (dk_at dksX1_mustBeBucket_0 20 rfl rfl)
theorem dX1_mustBeBucket_21 : decode cX1_mustBeBucket 21 = .ok (.getfield 39, 3) := dk_180 0 39 (dk_at dksX1_mustBeBucket_0 21 rfl rfl)
theorem dX1_mustBeBucket_24 : decode cX1_mustBeBucket 24 = .ok (.getfield 82, 3) := dk_180 0 82 (dk_at dksX1_mustBeBucket_1 0 rfl rfl)
theorem dX1_mustBeBucket_27 : decode cX1_mustBeBucket 27 = .ok (.iload_n 1, 1) := dk_27 (dk_at dksX1_mustBeBucket_1 3 rfl rfl)
theorem dX1_mustBeBucket_28 : decode cX1_mustBeBucket 28 = .ok (.invokevirtual 13, 3) := dk_182 0 13 (dk_at dksX1_mustBeBucket_1 4 rfl rfl)
theorem dX1_mustBeBucket_31 : decode cX1_mustBeBucket 31 = .ok (.checkcast 88, 3) := dk_192 0 88 (dk_at dksX1_mustBeBucket_1 7 rfl rfl)
theorem dX1_mustBeBucket_34 : decode cX1_mustBeBucket 34 = .ok (.areturn, 1) := dk_176 (dk_at dksX1_mustBeBucket_1 10 rfl rfl)
abbrev cX1_chain : ByteArray := prog_1_method_45_code
def yX1_chain : MethodName := ⟨RX1, "chain", "(I)Ljava/lang/String;"⟩
def dkwX1_chain_0 : List UInt8 := [42, 27, 182, 1, 49, 184, 1, 77, 176]
abbrev dktX1_chain_0 : List UInt8 := dkwX1_chain_0 ++ []
theorem dksX1_chain_0 : cX1_chain.data.toList.drop 0 = dktX1_chain_0 := by decide +kernel
theorem dX1_chain_0 : decode cX1_chain 0 = .ok (.aload_n 0, 1) := dk_42 (dk_at dksX1_chain_0 0 rfl rfl)
theorem dX1_chain_1 : decode cX1_chain 1 = .ok (.iload_n 1, 1) := dk_27 (dk_at dksX1_chain_0 1 rfl rfl)
theorem dX1_chain_2 : decode cX1_chain 2 = .ok (.invokevirtual 305, 3) := dk_182 1 49 (dk_at dksX1_chain_0 2 rfl rfl)
theorem dX1_chain_5 : decode cX1_chain 5 = .ok (.invokestatic 333, 3) := dk_184 1 77 (dk_at dksX1_chain_0 5 rfl rfl)
theorem dX1_chain_8 : decode cX1_chain 8 = .ok (.areturn, 1) := dk_176 (dk_at dksX1_chain_0 8 rfl rfl)
abbrev cX1_ofPage : ByteArray := prog_1_method_47_code
def yX1_ofPage : MethodName := ⟨RX1, "ofPage", "(II)I"⟩
def dkwX1_ofPage_5 : List UInt8 := [180, 1, 5, 167, 0, 4, 2, 172]
abbrev dktX1_ofPage_5 : List UInt8 := dkwX1_ofPage_5 ++ []
def dkwX1_ofPage_4 : List UInt8 := [46, 4, 96, 25, 4, 182, 0, 7, 162, 0, 22, 25, 4, 45, 4, 46, 4, 96, 182, 0, 13, 192, 0, 2]
abbrev dktX1_ofPage_4 : List UInt8 := dkwX1_ofPage_4 ++ dktX1_ofPage_5
def dkwX1_ofPage_3 : List UInt8 := [46, 167, 0, 20, 25, 4, 45, 4, 46, 182, 0, 13, 192, 0, 2, 180, 0, 1, 182, 0, 7, 172, 45, 4]
abbrev dktX1_ofPage_3 : List UInt8 := dkwX1_ofPage_3 ++ dktX1_ofPage_4
def dkwX1_ofPage_2 : List UInt8 := [3, 46, 182, 0, 13, 192, 0, 88, 180, 0, 195, 58, 4, 28, 5, 162, 0, 31, 28, 154, 0, 9, 45, 3]
abbrev dktX1_ofPage_2 : List UInt8 := dkwX1_ofPage_2 ++ dktX1_ofPage_3
def dkwX1_ofPage_1 : List UInt8 := [78, 45, 199, 0, 14, 28, 4, 160, 0, 7, 3, 167, 0, 4, 2, 172, 42, 180, 0, 39, 180, 0, 82, 45]
abbrev dktX1_ofPage_1 : List UInt8 := dkwX1_ofPage_1 ++ dktX1_ofPage_2
def dkwX1_ofPage_0 : List UInt8 := [27, 3, 16, 95, 184, 0, 74, 184, 0, 85, 28, 3, 5, 184, 0, 74, 184, 0, 78, 42, 27, 182, 1, 81]
abbrev dktX1_ofPage_0 : List UInt8 := dkwX1_ofPage_0 ++ dktX1_ofPage_1
theorem dksX1_ofPage_0 : cX1_ofPage.data.toList.drop 0 = dktX1_ofPage_0 := by decide +kernel
theorem dksX1_ofPage_1 : cX1_ofPage.data.toList.drop 24 = dktX1_ofPage_1 := dk_seg dksX1_ofPage_0 24 rfl rfl
theorem dksX1_ofPage_2 : cX1_ofPage.data.toList.drop 48 = dktX1_ofPage_2 := dk_seg dksX1_ofPage_1 24 rfl rfl
theorem dksX1_ofPage_3 : cX1_ofPage.data.toList.drop 72 = dktX1_ofPage_3 := dk_seg dksX1_ofPage_2 24 rfl rfl
theorem dksX1_ofPage_4 : cX1_ofPage.data.toList.drop 96 = dktX1_ofPage_4 := dk_seg dksX1_ofPage_3 24 rfl rfl
theorem dksX1_ofPage_5 : cX1_ofPage.data.toList.drop 120 = dktX1_ofPage_5 := dk_seg dksX1_ofPage_4 24 rfl rfl
theorem dX1_ofPage_0 : decode cX1_ofPage 0 = .ok (.iload_n 1, 1) := dk_27 (dk_at dksX1_ofPage_0 0 rfl rfl)
theorem dX1_ofPage_1 : decode cX1_ofPage 1 = .ok (.iconst 0, 1) := dk_3 (dk_at dksX1_ofPage_0 1 rfl rfl)
theorem dX1_ofPage_2 : decode cX1_ofPage 2 = .ok (.bipush 95, 2) := dk_16 95 (dk_at dksX1_ofPage_0 2 rfl rfl)
theorem dX1_ofPage_4 : decode cX1_ofPage 4 = .ok (.invokestatic 74, 3) := dk_184 0 74 (dk_at dksX1_ofPage_0 4 rfl rfl)
theorem dX1_ofPage_7 : decode cX1_ofPage 7 = .ok (.invokestatic 85, 3) := dk_184 0 85 (dk_at dksX1_ofPage_0 7 rfl rfl)
theorem dX1_ofPage_10 : decode cX1_ofPage 10 = .ok (.iload_n 2, 1) := dk_28 (dk_at dksX1_ofPage_0 10 rfl rfl)
theorem dX1_ofPage_11 : decode cX1_ofPage 11 = .ok (.iconst 0, 1) := dk_3 (dk_at dksX1_ofPage_0 11 rfl rfl)
theorem dX1_ofPage_12 : decode cX1_ofPage 12 = .ok (.iconst 2, 1) := dk_5 (dk_at dksX1_ofPage_0 12 rfl rfl)
theorem dX1_ofPage_13 : decode cX1_ofPage 13 = .ok (.invokestatic 74, 3) := dk_184 0 74 (dk_at dksX1_ofPage_0 13 rfl rfl)
theorem dX1_ofPage_16 : decode cX1_ofPage 16 = .ok (.invokestatic 78, 3) := dk_184 0 78 (dk_at dksX1_ofPage_0 16 rfl rfl)
theorem dX1_ofPage_19 : decode cX1_ofPage 19 = .ok (.aload_n 0, 1) := dk_42 (dk_at dksX1_ofPage_0 19 rfl rfl)
theorem dX1_ofPage_20 : decode cX1_ofPage 20 = .ok (.iload_n 1, 1) := dk_27 (dk_at dksX1_ofPage_0 20 rfl rfl)
theorem dX1_ofPage_21 : decode cX1_ofPage 21 = .ok (.invokevirtual 337, 3) := dk_182 1 81 (dk_at dksX1_ofPage_0 21 rfl rfl)
theorem dX1_ofPage_24 : decode cX1_ofPage 24 = .ok (.astore_n 3, 1) := dk_78 (dk_at dksX1_ofPage_1 0 rfl rfl)
theorem dX1_ofPage_25 : decode cX1_ofPage 25 = .ok (.aload_n 3, 1) := dk_45 (dk_at dksX1_ofPage_1 1 rfl rfl)
theorem dX1_ofPage_26 : decode cX1_ofPage 26 = .ok (.ifnonnull 14, 3) := dk_199 0 14 (dk_at dksX1_ofPage_1 2 rfl rfl)
theorem dX1_ofPage_29 : decode cX1_ofPage 29 = .ok (.iload_n 2, 1) := dk_28 (dk_at dksX1_ofPage_1 5 rfl rfl)
theorem dX1_ofPage_30 : decode cX1_ofPage 30 = .ok (.iconst 1, 1) := dk_4 (dk_at dksX1_ofPage_1 6 rfl rfl)
theorem dX1_ofPage_31 : decode cX1_ofPage 31 = .ok (.if_icmp .ne 7, 3) := dk_160 0 7 (dk_at dksX1_ofPage_1 7 rfl rfl)
theorem dX1_ofPage_34 : decode cX1_ofPage 34 = .ok (.iconst 0, 1) := dk_3 (dk_at dksX1_ofPage_1 10 rfl rfl)
theorem dX1_ofPage_35 : decode cX1_ofPage 35 = .ok (.goto 4, 3) := dk_167 0 4 (dk_at dksX1_ofPage_1 11 rfl rfl)
theorem dX1_ofPage_38 : decode cX1_ofPage 38 = .ok (.iconst (-1), 1) := dk_2 (dk_at dksX1_ofPage_1 14 rfl rfl)
theorem dX1_ofPage_39 : decode cX1_ofPage 39 = .ok (.ireturn, 1) := dk_172 (dk_at dksX1_ofPage_1 15 rfl rfl)
theorem dX1_ofPage_40 : decode cX1_ofPage 40 = .ok (.aload_n 0, 1) := dk_42 (dk_at dksX1_ofPage_1 16 rfl rfl)
theorem dX1_ofPage_41 : decode cX1_ofPage 41 = .ok (.getfield 39, 3) := dk_180 0 39 (dk_at dksX1_ofPage_1 17 rfl rfl)
theorem dX1_ofPage_44 : decode cX1_ofPage 44 = .ok (.getfield 82, 3) := dk_180 0 82 (dk_at dksX1_ofPage_1 20 rfl rfl)
theorem dX1_ofPage_47 : decode cX1_ofPage 47 = .ok (.aload_n 3, 1) := dk_45 (dk_at dksX1_ofPage_1 23 rfl rfl)
theorem dX1_ofPage_48 : decode cX1_ofPage 48 = .ok (.iconst 0, 1) := dk_3 (dk_at dksX1_ofPage_2 0 rfl rfl)
theorem dX1_ofPage_49 : decode cX1_ofPage 49 = .ok (.iaload, 1) := dk_46 (dk_at dksX1_ofPage_2 1 rfl rfl)
theorem dX1_ofPage_50 : decode cX1_ofPage 50 = .ok (.invokevirtual 13, 3) := dk_182 0 13 (dk_at dksX1_ofPage_2 2 rfl rfl)
theorem dX1_ofPage_53 : decode cX1_ofPage 53 = .ok (.checkcast 88, 3) := dk_192 0 88 (dk_at dksX1_ofPage_2 5 rfl rfl)
theorem dX1_ofPage_56 : decode cX1_ofPage 56 = .ok (.getfield 195, 3) := dk_180 0 195 (dk_at dksX1_ofPage_2 8 rfl rfl)
theorem dX1_ofPage_59 : decode cX1_ofPage 59 = .ok (.astore 4, 2) := dk_58 4 (dk_at dksX1_ofPage_2 11 rfl rfl)
theorem dX1_ofPage_61 : decode cX1_ofPage 61 = .ok (.iload_n 2, 1) := dk_28 (dk_at dksX1_ofPage_2 13 rfl rfl)
theorem dX1_ofPage_62 : decode cX1_ofPage 62 = .ok (.iconst 2, 1) := dk_5 (dk_at dksX1_ofPage_2 14 rfl rfl)
theorem dX1_ofPage_63 : decode cX1_ofPage 63 = .ok (.if_icmp .ge 31, 3) := dk_162 0 31 (dk_at dksX1_ofPage_2 15 rfl rfl)
theorem dX1_ofPage_66 : decode cX1_ofPage 66 = .ok (.iload_n 2, 1) := dk_28 (dk_at dksX1_ofPage_2 18 rfl rfl)
theorem dX1_ofPage_67 : decode cX1_ofPage 67 = .ok (.ifCond .ne 9, 3) := dk_154 0 9 (dk_at dksX1_ofPage_2 19 rfl rfl)
theorem dX1_ofPage_70 : decode cX1_ofPage 70 = .ok (.aload_n 3, 1) := dk_45 (dk_at dksX1_ofPage_2 22 rfl rfl)
theorem dX1_ofPage_71 : decode cX1_ofPage 71 = .ok (.iconst 0, 1) := dk_3 (dk_at dksX1_ofPage_2 23 rfl rfl)
theorem dX1_ofPage_72 : decode cX1_ofPage 72 = .ok (.iaload, 1) := dk_46 (dk_at dksX1_ofPage_3 0 rfl rfl)
theorem dX1_ofPage_73 : decode cX1_ofPage 73 = .ok (.goto 20, 3) := dk_167 0 20 (dk_at dksX1_ofPage_3 1 rfl rfl)
theorem dX1_ofPage_76 : decode cX1_ofPage 76 = .ok (.aload 4, 2) := dk_25 4 (dk_at dksX1_ofPage_3 4 rfl rfl)
theorem dX1_ofPage_78 : decode cX1_ofPage 78 = .ok (.aload_n 3, 1) := dk_45 (dk_at dksX1_ofPage_3 6 rfl rfl)
theorem dX1_ofPage_79 : decode cX1_ofPage 79 = .ok (.iconst 1, 1) := dk_4 (dk_at dksX1_ofPage_3 7 rfl rfl)
theorem dX1_ofPage_80 : decode cX1_ofPage 80 = .ok (.iaload, 1) := dk_46 (dk_at dksX1_ofPage_3 8 rfl rfl)
theorem dX1_ofPage_81 : decode cX1_ofPage 81 = .ok (.invokevirtual 13, 3) := dk_182 0 13 (dk_at dksX1_ofPage_3 9 rfl rfl)
theorem dX1_ofPage_84 : decode cX1_ofPage 84 = .ok (.checkcast 2, 3) := dk_192 0 2 (dk_at dksX1_ofPage_3 12 rfl rfl)
theorem dX1_ofPage_87 : decode cX1_ofPage 87 = .ok (.getfield 1, 3) := dk_180 0 1 (dk_at dksX1_ofPage_3 15 rfl rfl)
theorem dX1_ofPage_90 : decode cX1_ofPage 90 = .ok (.invokevirtual 7, 3) := dk_182 0 7 (dk_at dksX1_ofPage_3 18 rfl rfl)
theorem dX1_ofPage_93 : decode cX1_ofPage 93 = .ok (.ireturn, 1) := dk_172 (dk_at dksX1_ofPage_3 21 rfl rfl)
theorem dX1_ofPage_94 : decode cX1_ofPage 94 = .ok (.aload_n 3, 1) := dk_45 (dk_at dksX1_ofPage_3 22 rfl rfl)
theorem dX1_ofPage_95 : decode cX1_ofPage 95 = .ok (.iconst 1, 1) := dk_4 (dk_at dksX1_ofPage_3 23 rfl rfl)
theorem dX1_ofPage_96 : decode cX1_ofPage 96 = .ok (.iaload, 1) := dk_46 (dk_at dksX1_ofPage_4 0 rfl rfl)
theorem dX1_ofPage_97 : decode cX1_ofPage 97 = .ok (.iconst 1, 1) := dk_4 (dk_at dksX1_ofPage_4 1 rfl rfl)
theorem dX1_ofPage_98 : decode cX1_ofPage 98 = .ok (.iadd, 1) := dk_96 (dk_at dksX1_ofPage_4 2 rfl rfl)
theorem dX1_ofPage_99 : decode cX1_ofPage 99 = .ok (.aload 4, 2) := dk_25 4 (dk_at dksX1_ofPage_4 3 rfl rfl)
theorem dX1_ofPage_101 : decode cX1_ofPage 101 = .ok (.invokevirtual 7, 3) := dk_182 0 7 (dk_at dksX1_ofPage_4 5 rfl rfl)
theorem dX1_ofPage_104 : decode cX1_ofPage 104 = .ok (.if_icmp .ge 22, 3) := dk_162 0 22 (dk_at dksX1_ofPage_4 8 rfl rfl)
theorem dX1_ofPage_107 : decode cX1_ofPage 107 = .ok (.aload 4, 2) := dk_25 4 (dk_at dksX1_ofPage_4 11 rfl rfl)
theorem dX1_ofPage_109 : decode cX1_ofPage 109 = .ok (.aload_n 3, 1) := dk_45 (dk_at dksX1_ofPage_4 13 rfl rfl)
theorem dX1_ofPage_110 : decode cX1_ofPage 110 = .ok (.iconst 1, 1) := dk_4 (dk_at dksX1_ofPage_4 14 rfl rfl)
theorem dX1_ofPage_111 : decode cX1_ofPage 111 = .ok (.iaload, 1) := dk_46 (dk_at dksX1_ofPage_4 15 rfl rfl)
theorem dX1_ofPage_112 : decode cX1_ofPage 112 = .ok (.iconst 1, 1) := dk_4 (dk_at dksX1_ofPage_4 16 rfl rfl)
theorem dX1_ofPage_113 : decode cX1_ofPage 113 = .ok (.iadd, 1) := dk_96 (dk_at dksX1_ofPage_4 17 rfl rfl)
theorem dX1_ofPage_114 : decode cX1_ofPage 114 = .ok (.invokevirtual 13, 3) := dk_182 0 13 (dk_at dksX1_ofPage_4 18 rfl rfl)
theorem dX1_ofPage_117 : decode cX1_ofPage 117 = .ok (.checkcast 2, 3) := dk_192 0 2 (dk_at dksX1_ofPage_4 21 rfl rfl)
theorem dX1_ofPage_120 : decode cX1_ofPage 120 = .ok (.getfield 261, 3) := dk_180 1 5 (dk_at dksX1_ofPage_5 0 rfl rfl)
theorem dX1_ofPage_123 : decode cX1_ofPage 123 = .ok (.goto 4, 3) := dk_167 0 4 (dk_at dksX1_ofPage_5 3 rfl rfl)
theorem dX1_ofPage_126 : decode cX1_ofPage 126 = .ok (.iconst (-1), 1) := dk_2 (dk_at dksX1_ofPage_5 6 rfl rfl)
theorem dX1_ofPage_127 : decode cX1_ofPage 127 = .ok (.ireturn, 1) := dk_172 (dk_at dksX1_ofPage_5 7 rfl rfl)
abbrev cX1_placeOf : ByteArray := prog_1_method_46_code
def yX1_placeOf : MethodName := ⟨RX1, "placeOf", "(I)[I"⟩
def dkwX1_placeOf_3 : List UInt8 := [21, 4, 79, 176, 132, 4, 1, 167, 255, 215, 132, 2, 1, 167, 255, 174, 1, 176]
abbrev dktX1_placeOf_3 : List UInt8 := dkwX1_placeOf_3 ++ []
def dkwX1_placeOf_2 : List UInt8 := [21, 4, 182, 0, 13, 192, 0, 2, 180, 1, 5, 27, 160, 0, 16, 5, 188, 10, 89, 3, 28, 79, 89, 4]
abbrev dktX1_placeOf_2 : List UInt8 := dkwX1_placeOf_2 ++ dktX1_placeOf_3
def dkwX1_placeOf_1 : List UInt8 := [182, 0, 13, 192, 0, 88, 180, 0, 195, 78, 3, 54, 4, 21, 4, 45, 182, 0, 7, 162, 0, 38, 45]
abbrev dktX1_placeOf_1 : List UInt8 := dkwX1_placeOf_1 ++ dktX1_placeOf_2
def dkwX1_placeOf_0 : List UInt8 := [3, 61, 28, 42, 180, 0, 39, 180, 0, 82, 182, 0, 7, 162, 0, 74, 42, 180, 0, 39, 180, 0, 82, 28]
abbrev dktX1_placeOf_0 : List UInt8 := dkwX1_placeOf_0 ++ dktX1_placeOf_1
theorem dksX1_placeOf_0 : cX1_placeOf.data.toList.drop 0 = dktX1_placeOf_0 := by decide +kernel
theorem dksX1_placeOf_1 : cX1_placeOf.data.toList.drop 24 = dktX1_placeOf_1 := dk_seg dksX1_placeOf_0 24 rfl rfl
theorem dksX1_placeOf_2 : cX1_placeOf.data.toList.drop 47 = dktX1_placeOf_2 := dk_seg dksX1_placeOf_1 23 rfl rfl
theorem dksX1_placeOf_3 : cX1_placeOf.data.toList.drop 71 = dktX1_placeOf_3 := dk_seg dksX1_placeOf_2 24 rfl rfl
theorem dX1_placeOf_0 : decode cX1_placeOf 0 = .ok (.iconst 0, 1) := dk_3 (dk_at dksX1_placeOf_0 0 rfl rfl)
theorem dX1_placeOf_1 : decode cX1_placeOf 1 = .ok (.istore_n 2, 1) := dk_61 (dk_at dksX1_placeOf_0 1 rfl rfl)
theorem dX1_placeOf_2 : decode cX1_placeOf 2 = .ok (.iload_n 2, 1) := dk_28 (dk_at dksX1_placeOf_0 2 rfl rfl)
theorem dX1_placeOf_3 : decode cX1_placeOf 3 = .ok (.aload_n 0, 1) := dk_42 (dk_at dksX1_placeOf_0 3 rfl rfl)
theorem dX1_placeOf_4 : decode cX1_placeOf 4 = .ok (.getfield 39, 3) := dk_180 0 39 (dk_at dksX1_placeOf_0 4 rfl rfl)
theorem dX1_placeOf_7 : decode cX1_placeOf 7 = .ok (.getfield 82, 3) := dk_180 0 82 (dk_at dksX1_placeOf_0 7 rfl rfl)
theorem dX1_placeOf_10 : decode cX1_placeOf 10 = .ok (.invokevirtual 7, 3) := dk_182 0 7 (dk_at dksX1_placeOf_0 10 rfl rfl)
theorem dX1_placeOf_13 : decode cX1_placeOf 13 = .ok (.if_icmp .ge 74, 3) := dk_162 0 74 (dk_at dksX1_placeOf_0 13 rfl rfl)
theorem dX1_placeOf_16 : decode cX1_placeOf 16 = .ok (.aload_n 0, 1) := dk_42 (dk_at dksX1_placeOf_0 16 rfl rfl)
theorem dX1_placeOf_17 : decode cX1_placeOf 17 = .ok (.getfield 39, 3) := dk_180 0 39 (dk_at dksX1_placeOf_0 17 rfl rfl)
theorem dX1_placeOf_20 : decode cX1_placeOf 20 = .ok (.getfield 82, 3) := dk_180 0 82 (dk_at dksX1_placeOf_0 20 rfl rfl)
theorem dX1_placeOf_23 : decode cX1_placeOf 23 = .ok (.iload_n 2, 1) := dk_28 (dk_at dksX1_placeOf_0 23 rfl rfl)
theorem dX1_placeOf_24 : decode cX1_placeOf 24 = .ok (.invokevirtual 13, 3) := dk_182 0 13 (dk_at dksX1_placeOf_1 0 rfl rfl)
theorem dX1_placeOf_27 : decode cX1_placeOf 27 = .ok (.checkcast 88, 3) := dk_192 0 88 (dk_at dksX1_placeOf_1 3 rfl rfl)
theorem dX1_placeOf_30 : decode cX1_placeOf 30 = .ok (.getfield 195, 3) := dk_180 0 195 (dk_at dksX1_placeOf_1 6 rfl rfl)
theorem dX1_placeOf_33 : decode cX1_placeOf 33 = .ok (.astore_n 3, 1) := dk_78 (dk_at dksX1_placeOf_1 9 rfl rfl)
theorem dX1_placeOf_34 : decode cX1_placeOf 34 = .ok (.iconst 0, 1) := dk_3 (dk_at dksX1_placeOf_1 10 rfl rfl)
theorem dX1_placeOf_35 : decode cX1_placeOf 35 = .ok (.istore 4, 2) := dk_54 4 (dk_at dksX1_placeOf_1 11 rfl rfl)
theorem dX1_placeOf_37 : decode cX1_placeOf 37 = .ok (.iload 4, 2) := dk_21 4 (dk_at dksX1_placeOf_1 13 rfl rfl)
theorem dX1_placeOf_39 : decode cX1_placeOf 39 = .ok (.aload_n 3, 1) := dk_45 (dk_at dksX1_placeOf_1 15 rfl rfl)
theorem dX1_placeOf_40 : decode cX1_placeOf 40 = .ok (.invokevirtual 7, 3) := dk_182 0 7 (dk_at dksX1_placeOf_1 16 rfl rfl)
theorem dX1_placeOf_43 : decode cX1_placeOf 43 = .ok (.if_icmp .ge 38, 3) := dk_162 0 38 (dk_at dksX1_placeOf_1 19 rfl rfl)
theorem dX1_placeOf_46 : decode cX1_placeOf 46 = .ok (.aload_n 3, 1) := dk_45 (dk_at dksX1_placeOf_1 22 rfl rfl)
theorem dX1_placeOf_47 : decode cX1_placeOf 47 = .ok (.iload 4, 2) := dk_21 4 (dk_at dksX1_placeOf_2 0 rfl rfl)
theorem dX1_placeOf_49 : decode cX1_placeOf 49 = .ok (.invokevirtual 13, 3) := dk_182 0 13 (dk_at dksX1_placeOf_2 2 rfl rfl)
theorem dX1_placeOf_52 : decode cX1_placeOf 52 = .ok (.checkcast 2, 3) := dk_192 0 2 (dk_at dksX1_placeOf_2 5 rfl rfl)
theorem dX1_placeOf_55 : decode cX1_placeOf 55 = .ok (.getfield 261, 3) := dk_180 1 5 (dk_at dksX1_placeOf_2 8 rfl rfl)
theorem dX1_placeOf_58 : decode cX1_placeOf 58 = .ok (.iload_n 1, 1) := dk_27 (dk_at dksX1_placeOf_2 11 rfl rfl)
theorem dX1_placeOf_59 : decode cX1_placeOf 59 = .ok (.if_icmp .ne 16, 3) := dk_160 0 16 (dk_at dksX1_placeOf_2 12 rfl rfl)
theorem dX1_placeOf_62 : decode cX1_placeOf 62 = .ok (.iconst 2, 1) := dk_5 (dk_at dksX1_placeOf_2 15 rfl rfl)
theorem dX1_placeOf_63 : decode cX1_placeOf 63 = .ok (.newarray .int, 2) := dk_188_10 (dk_at dksX1_placeOf_2 16 rfl rfl)
theorem dX1_placeOf_65 : decode cX1_placeOf 65 = .ok (.dup, 1) := dk_89 (dk_at dksX1_placeOf_2 18 rfl rfl)
theorem dX1_placeOf_66 : decode cX1_placeOf 66 = .ok (.iconst 0, 1) := dk_3 (dk_at dksX1_placeOf_2 19 rfl rfl)
theorem dX1_placeOf_67 : decode cX1_placeOf 67 = .ok (.iload_n 2, 1) := dk_28 (dk_at dksX1_placeOf_2 20 rfl rfl)
theorem dX1_placeOf_68 : decode cX1_placeOf 68 = .ok (.iastore, 1) := dk_79 (dk_at dksX1_placeOf_2 21 rfl rfl)
theorem dX1_placeOf_69 : decode cX1_placeOf 69 = .ok (.dup, 1) := dk_89 (dk_at dksX1_placeOf_2 22 rfl rfl)
theorem dX1_placeOf_70 : decode cX1_placeOf 70 = .ok (.iconst 1, 1) := dk_4 (dk_at dksX1_placeOf_2 23 rfl rfl)
theorem dX1_placeOf_71 : decode cX1_placeOf 71 = .ok (.iload 4, 2) := dk_21 4 (dk_at dksX1_placeOf_3 0 rfl rfl)
theorem dX1_placeOf_73 : decode cX1_placeOf 73 = .ok (.iastore, 1) := dk_79 (dk_at dksX1_placeOf_3 2 rfl rfl)
theorem dX1_placeOf_74 : decode cX1_placeOf 74 = .ok (.areturn, 1) := dk_176 (dk_at dksX1_placeOf_3 3 rfl rfl)
theorem dX1_placeOf_75 : decode cX1_placeOf 75 = .ok (.iinc 4 1, 3) := dk_132 4 1 (dk_at dksX1_placeOf_3 4 rfl rfl)
theorem dX1_placeOf_78 : decode cX1_placeOf 78 = .ok (.goto (-41), 3) := dk_167 255 215 (dk_at dksX1_placeOf_3 7 rfl rfl)
theorem dX1_placeOf_81 : decode cX1_placeOf 81 = .ok (.iinc 2 1, 3) := dk_132 2 1 (dk_at dksX1_placeOf_3 10 rfl rfl)
theorem dX1_placeOf_84 : decode cX1_placeOf 84 = .ok (.goto (-82), 3) := dk_167 255 174 (dk_at dksX1_placeOf_3 13 rfl rfl)
theorem dX1_placeOf_87 : decode cX1_placeOf 87 = .ok (.aconst_null, 1) := dk_1 (dk_at dksX1_placeOf_3 16 rfl rfl)
theorem dX1_placeOf_88 : decode cX1_placeOf 88 = .ok (.areturn, 1) := dk_176 (dk_at dksX1_placeOf_3 17 rfl rfl)
abbrev cX1_mark : ByteArray := prog_1_method_49_code
def yX1_mark : MethodName := ⟨RX1, "mark", "(I)I"⟩
def dkwX1_mark_0 : List UInt8 := [27, 184, 0, 208, 42, 27, 182, 1, 85, 172]
abbrev dktX1_mark_0 : List UInt8 := dkwX1_mark_0 ++ []
theorem dksX1_mark_0 : cX1_mark.data.toList.drop 0 = dktX1_mark_0 := by decide +kernel
theorem dX1_mark_0 : decode cX1_mark 0 = .ok (.iload_n 1, 1) := dk_27 (dk_at dksX1_mark_0 0 rfl rfl)
theorem dX1_mark_1 : decode cX1_mark 1 = .ok (.invokestatic 208, 3) := dk_184 0 208 (dk_at dksX1_mark_0 1 rfl rfl)
theorem dX1_mark_4 : decode cX1_mark 4 = .ok (.aload_n 0, 1) := dk_42 (dk_at dksX1_mark_0 4 rfl rfl)
theorem dX1_mark_5 : decode cX1_mark 5 = .ok (.iload_n 1, 1) := dk_27 (dk_at dksX1_mark_0 5 rfl rfl)
theorem dX1_mark_6 : decode cX1_mark 6 = .ok (.invokevirtual 341, 3) := dk_182 1 85 (dk_at dksX1_mark_0 6 rfl rfl)
theorem dX1_mark_9 : decode cX1_mark 9 = .ok (.ireturn, 1) := dk_172 (dk_at dksX1_mark_0 9 rfl rfl)
abbrev cX1_ofClient : ByteArray := prog_1_method_51_code
def yX1_ofClient : MethodName := ⟨RX1, "ofClient", "(II)I"⟩
def dkwX1_ofClient_0 : List UInt8 := [42, 27, 182, 0, 214, 78, 28, 3, 5, 184, 0, 74, 184, 0, 78, 42, 45, 28, 182, 1, 92, 172]
abbrev dktX1_ofClient_0 : List UInt8 := dkwX1_ofClient_0 ++ []
theorem dksX1_ofClient_0 : cX1_ofClient.data.toList.drop 0 = dktX1_ofClient_0 := by decide +kernel
theorem dX1_ofClient_0 : decode cX1_ofClient 0 = .ok (.aload_n 0, 1) := dk_42 (dk_at dksX1_ofClient_0 0 rfl rfl)
theorem dX1_ofClient_1 : decode cX1_ofClient 1 = .ok (.iload_n 1, 1) := dk_27 (dk_at dksX1_ofClient_0 1 rfl rfl)
theorem dX1_ofClient_2 : decode cX1_ofClient 2 = .ok (.invokevirtual 214, 3) := dk_182 0 214 (dk_at dksX1_ofClient_0 2 rfl rfl)
theorem dX1_ofClient_5 : decode cX1_ofClient 5 = .ok (.astore_n 3, 1) := dk_78 (dk_at dksX1_ofClient_0 5 rfl rfl)
theorem dX1_ofClient_6 : decode cX1_ofClient 6 = .ok (.iload_n 2, 1) := dk_28 (dk_at dksX1_ofClient_0 6 rfl rfl)
theorem dX1_ofClient_7 : decode cX1_ofClient 7 = .ok (.iconst 0, 1) := dk_3 (dk_at dksX1_ofClient_0 7 rfl rfl)
theorem dX1_ofClient_8 : decode cX1_ofClient 8 = .ok (.iconst 2, 1) := dk_5 (dk_at dksX1_ofClient_0 8 rfl rfl)
theorem dX1_ofClient_9 : decode cX1_ofClient 9 = .ok (.invokestatic 74, 3) := dk_184 0 74 (dk_at dksX1_ofClient_0 9 rfl rfl)
theorem dX1_ofClient_12 : decode cX1_ofClient 12 = .ok (.invokestatic 78, 3) := dk_184 0 78 (dk_at dksX1_ofClient_0 12 rfl rfl)
theorem dX1_ofClient_15 : decode cX1_ofClient 15 = .ok (.aload_n 0, 1) := dk_42 (dk_at dksX1_ofClient_0 15 rfl rfl)
theorem dX1_ofClient_16 : decode cX1_ofClient 16 = .ok (.aload_n 3, 1) := dk_45 (dk_at dksX1_ofClient_0 16 rfl rfl)
theorem dX1_ofClient_17 : decode cX1_ofClient 17 = .ok (.iload_n 2, 1) := dk_28 (dk_at dksX1_ofClient_0 17 rfl rfl)
theorem dX1_ofClient_18 : decode cX1_ofClient 18 = .ok (.invokevirtual 348, 3) := dk_182 1 92 (dk_at dksX1_ofClient_0 18 rfl rfl)
theorem dX1_ofClient_21 : decode cX1_ofClient 21 = .ok (.ireturn, 1) := dk_172 (dk_at dksX1_ofClient_0 21 rfl rfl)
abbrev cX1_seek : ByteArray := prog_1_method_53_code
def yX1_seek : MethodName := ⟨RX1, "seek", "(ZII)I"⟩
def dkwX1_seek_0 : List UInt8 := [28, 184, 1, 96, 29, 155, 0, 7, 4, 167, 0, 4, 3, 184, 0, 78, 42, 27, 28, 29, 182, 1, 99, 172]
abbrev dktX1_seek_0 : List UInt8 := dkwX1_seek_0 ++ []
theorem dksX1_seek_0 : cX1_seek.data.toList.drop 0 = dktX1_seek_0 := by decide +kernel
theorem dX1_seek_0 : decode cX1_seek 0 = .ok (.iload_n 2, 1) := dk_28 (dk_at dksX1_seek_0 0 rfl rfl)
theorem dX1_seek_1 : decode cX1_seek 1 = .ok (.invokestatic 352, 3) := dk_184 1 96 (dk_at dksX1_seek_0 1 rfl rfl)
theorem dX1_seek_4 : decode cX1_seek 4 = .ok (.iload_n 3, 1) := dk_29 (dk_at dksX1_seek_0 4 rfl rfl)
theorem dX1_seek_5 : decode cX1_seek 5 = .ok (.ifCond .lt 7, 3) := dk_155 0 7 (dk_at dksX1_seek_0 5 rfl rfl)
theorem dX1_seek_8 : decode cX1_seek 8 = .ok (.iconst 1, 1) := dk_4 (dk_at dksX1_seek_0 8 rfl rfl)
theorem dX1_seek_9 : decode cX1_seek 9 = .ok (.goto 4, 3) := dk_167 0 4 (dk_at dksX1_seek_0 9 rfl rfl)
theorem dX1_seek_12 : decode cX1_seek 12 = .ok (.iconst 0, 1) := dk_3 (dk_at dksX1_seek_0 12 rfl rfl)
theorem dX1_seek_13 : decode cX1_seek 13 = .ok (.invokestatic 78, 3) := dk_184 0 78 (dk_at dksX1_seek_0 13 rfl rfl)
theorem dX1_seek_16 : decode cX1_seek 16 = .ok (.aload_n 0, 1) := dk_42 (dk_at dksX1_seek_0 16 rfl rfl)
theorem dX1_seek_17 : decode cX1_seek 17 = .ok (.iload_n 1, 1) := dk_27 (dk_at dksX1_seek_0 17 rfl rfl)
theorem dX1_seek_18 : decode cX1_seek 18 = .ok (.iload_n 2, 1) := dk_28 (dk_at dksX1_seek_0 18 rfl rfl)
theorem dX1_seek_19 : decode cX1_seek 19 = .ok (.iload_n 3, 1) := dk_29 (dk_at dksX1_seek_0 19 rfl rfl)
theorem dX1_seek_20 : decode cX1_seek 20 = .ok (.invokevirtual 355, 3) := dk_182 1 99 (dk_at dksX1_seek_0 20 rfl rfl)
theorem dX1_seek_23 : decode cX1_seek 23 = .ok (.ireturn, 1) := dk_172 (dk_at dksX1_seek_0 23 rfl rfl)
abbrev cX1_mustBeField : ByteArray := prog_1_method_52_code
def yX1_mustBeField : MethodName := ⟨RX1, "mustBeField", "(I)V"⟩
def dkwX1_mustBeField_0 : List UInt8 := [26, 3, 16, 99, 184, 0, 74, 184, 0, 78, 177]
abbrev dktX1_mustBeField_0 : List UInt8 := dkwX1_mustBeField_0 ++ []
theorem dksX1_mustBeField_0 : cX1_mustBeField.data.toList.drop 0 = dktX1_mustBeField_0 := by decide +kernel
theorem dX1_mustBeField_0 : decode cX1_mustBeField 0 = .ok (.iload_n 0, 1) := dk_26 (dk_at dksX1_mustBeField_0 0 rfl rfl)
theorem dX1_mustBeField_1 : decode cX1_mustBeField 1 = .ok (.iconst 0, 1) := dk_3 (dk_at dksX1_mustBeField_0 1 rfl rfl)
theorem dX1_mustBeField_2 : decode cX1_mustBeField 2 = .ok (.bipush 99, 2) := dk_16 99 (dk_at dksX1_mustBeField_0 2 rfl rfl)
theorem dX1_mustBeField_4 : decode cX1_mustBeField 4 = .ok (.invokestatic 74, 3) := dk_184 0 74 (dk_at dksX1_mustBeField_0 4 rfl rfl)
theorem dX1_mustBeField_7 : decode cX1_mustBeField 7 = .ok (.invokestatic 78, 3) := dk_184 0 78 (dk_at dksX1_mustBeField_0 7 rfl rfl)
theorem dX1_mustBeField_10 : decode cX1_mustBeField 10 = .ok (.return_, 1) := dk_177 (dk_at dksX1_mustBeField_0 10 rfl rfl)
abbrev cX1_seekNow : ByteArray := prog_1_method_21_code
def yX1_seekNow : MethodName := ⟨RX1, "seekNow", "(ZII)I"⟩
def dkwX1_seekNow_2 : List UInt8 := [182, 0, 127, 58, 5, 167, 255, 216, 2, 172]
abbrev dktX1_seekNow_2 : List UInt8 := dkwX1_seekNow_2 ++ []
def dkwX1_seekNow_1 : List UInt8 := [153, 0, 17, 21, 4, 154, 0, 9, 25, 5, 180, 0, 19, 172, 132, 4, 255, 42, 25, 5, 180, 0, 19]
abbrev dktX1_seekNow_1 : List UInt8 := dkwX1_seekNow_1 ++ dktX1_seekNow_2
def dkwX1_seekNow_0 : List UInt8 := [29, 54, 4, 42, 16, 254, 182, 0, 127, 58, 5, 25, 5, 198, 0, 41, 25, 5, 27, 28, 182, 0, 131]
abbrev dktX1_seekNow_0 : List UInt8 := dkwX1_seekNow_0 ++ dktX1_seekNow_1
theorem dksX1_seekNow_0 : cX1_seekNow.data.toList.drop 0 = dktX1_seekNow_0 := by decide +kernel
theorem dksX1_seekNow_1 : cX1_seekNow.data.toList.drop 23 = dktX1_seekNow_1 := dk_seg dksX1_seekNow_0 23 rfl rfl
theorem dksX1_seekNow_2 : cX1_seekNow.data.toList.drop 46 = dktX1_seekNow_2 := dk_seg dksX1_seekNow_1 23 rfl rfl
theorem dX1_seekNow_0 : decode cX1_seekNow 0 = .ok (.iload_n 3, 1) := dk_29 (dk_at dksX1_seekNow_0 0 rfl rfl)
theorem dX1_seekNow_1 : decode cX1_seekNow 1 = .ok (.istore 4, 2) := dk_54 4 (dk_at dksX1_seekNow_0 1 rfl rfl)
theorem dX1_seekNow_3 : decode cX1_seekNow 3 = .ok (.aload_n 0, 1) := dk_42 (dk_at dksX1_seekNow_0 3 rfl rfl)
theorem dX1_seekNow_4 : decode cX1_seekNow 4 = .ok (.bipush (-2), 2) := dk_16 254 (dk_at dksX1_seekNow_0 4 rfl rfl)
theorem dX1_seekNow_6 : decode cX1_seekNow 6 = .ok (.invokevirtual 127, 3) := dk_182 0 127 (dk_at dksX1_seekNow_0 6 rfl rfl)
theorem dX1_seekNow_9 : decode cX1_seekNow 9 = .ok (.astore 5, 2) := dk_58 5 (dk_at dksX1_seekNow_0 9 rfl rfl)
theorem dX1_seekNow_11 : decode cX1_seekNow 11 = .ok (.aload 5, 2) := dk_25 5 (dk_at dksX1_seekNow_0 11 rfl rfl)
theorem dX1_seekNow_13 : decode cX1_seekNow 13 = .ok (.ifnull 41, 3) := dk_198 0 41 (dk_at dksX1_seekNow_0 13 rfl rfl)
theorem dX1_seekNow_16 : decode cX1_seekNow 16 = .ok (.aload 5, 2) := dk_25 5 (dk_at dksX1_seekNow_0 16 rfl rfl)
theorem dX1_seekNow_18 : decode cX1_seekNow 18 = .ok (.iload_n 1, 1) := dk_27 (dk_at dksX1_seekNow_0 18 rfl rfl)
theorem dX1_seekNow_19 : decode cX1_seekNow 19 = .ok (.iload_n 2, 1) := dk_28 (dk_at dksX1_seekNow_0 19 rfl rfl)
theorem dX1_seekNow_20 : decode cX1_seekNow 20 = .ok (.invokevirtual 131, 3) := dk_182 0 131 (dk_at dksX1_seekNow_0 20 rfl rfl)
theorem dX1_seekNow_23 : decode cX1_seekNow 23 = .ok (.ifCond .eq 17, 3) := dk_153 0 17 (dk_at dksX1_seekNow_1 0 rfl rfl)
theorem dX1_seekNow_26 : decode cX1_seekNow 26 = .ok (.iload 4, 2) := dk_21 4 (dk_at dksX1_seekNow_1 3 rfl rfl)
theorem dX1_seekNow_28 : decode cX1_seekNow 28 = .ok (.ifCond .ne 9, 3) := dk_154 0 9 (dk_at dksX1_seekNow_1 5 rfl rfl)
theorem dX1_seekNow_31 : decode cX1_seekNow 31 = .ok (.aload 5, 2) := dk_25 5 (dk_at dksX1_seekNow_1 8 rfl rfl)
theorem dX1_seekNow_33 : decode cX1_seekNow 33 = .ok (.getfield 19, 3) := dk_180 0 19 (dk_at dksX1_seekNow_1 10 rfl rfl)
theorem dX1_seekNow_36 : decode cX1_seekNow 36 = .ok (.ireturn, 1) := dk_172 (dk_at dksX1_seekNow_1 13 rfl rfl)
theorem dX1_seekNow_37 : decode cX1_seekNow 37 = .ok (.iinc 4 (-1), 3) := dk_132 4 255 (dk_at dksX1_seekNow_1 14 rfl rfl)
theorem dX1_seekNow_40 : decode cX1_seekNow 40 = .ok (.aload_n 0, 1) := dk_42 (dk_at dksX1_seekNow_1 17 rfl rfl)
theorem dX1_seekNow_41 : decode cX1_seekNow 41 = .ok (.aload 5, 2) := dk_25 5 (dk_at dksX1_seekNow_1 18 rfl rfl)
theorem dX1_seekNow_43 : decode cX1_seekNow 43 = .ok (.getfield 19, 3) := dk_180 0 19 (dk_at dksX1_seekNow_1 20 rfl rfl)
theorem dX1_seekNow_46 : decode cX1_seekNow 46 = .ok (.invokevirtual 127, 3) := dk_182 0 127 (dk_at dksX1_seekNow_2 0 rfl rfl)
theorem dX1_seekNow_49 : decode cX1_seekNow 49 = .ok (.astore 5, 2) := dk_58 5 (dk_at dksX1_seekNow_2 3 rfl rfl)
theorem dX1_seekNow_51 : decode cX1_seekNow 51 = .ok (.goto (-40), 3) := dk_167 255 216 (dk_at dksX1_seekNow_2 5 rfl rfl)
theorem dX1_seekNow_54 : decode cX1_seekNow 54 = .ok (.iconst (-1), 1) := dk_2 (dk_at dksX1_seekNow_2 8 rfl rfl)
theorem dX1_seekNow_55 : decode cX1_seekNow 55 = .ok (.ireturn, 1) := dk_172 (dk_at dksX1_seekNow_2 9 rfl rfl)
abbrev cX1_visits : ByteArray := prog_1_method_54_code
def yX1_visits : MethodName := ⟨RX1, "visits", "(ZI)I"⟩
def dkwX1_visits_0 : List UInt8 := [28, 184, 1, 96, 42, 180, 0, 39, 27, 28, 182, 1, 103, 172]
abbrev dktX1_visits_0 : List UInt8 := dkwX1_visits_0 ++ []
theorem dksX1_visits_0 : cX1_visits.data.toList.drop 0 = dktX1_visits_0 := by decide +kernel
theorem dX1_visits_0 : decode cX1_visits 0 = .ok (.iload_n 2, 1) := dk_28 (dk_at dksX1_visits_0 0 rfl rfl)
theorem dX1_visits_1 : decode cX1_visits 1 = .ok (.invokestatic 352, 3) := dk_184 1 96 (dk_at dksX1_visits_0 1 rfl rfl)
theorem dX1_visits_4 : decode cX1_visits 4 = .ok (.aload_n 0, 1) := dk_42 (dk_at dksX1_visits_0 4 rfl rfl)
theorem dX1_visits_5 : decode cX1_visits 5 = .ok (.getfield 39, 3) := dk_180 0 39 (dk_at dksX1_visits_0 5 rfl rfl)
theorem dX1_visits_8 : decode cX1_visits 8 = .ok (.iload_n 1, 1) := dk_27 (dk_at dksX1_visits_0 8 rfl rfl)
theorem dX1_visits_9 : decode cX1_visits 9 = .ok (.iload_n 2, 1) := dk_28 (dk_at dksX1_visits_0 9 rfl rfl)
theorem dX1_visits_10 : decode cX1_visits 10 = .ok (.invokevirtual 359, 3) := dk_182 1 103 (dk_at dksX1_visits_0 10 rfl rfl)
theorem dX1_visits_13 : decode cX1_visits 13 = .ok (.ireturn, 1) := dk_172 (dk_at dksX1_visits_0 13 rfl rfl)
abbrev cX1_would : ByteArray := prog_1_method_55_code
def yX1_would : MethodName := ⟨RX1, "would", "(III)I"⟩
def dkwX1_would_4 : List UInt8 := [3, 182, 1, 103, 172]
abbrev dktX1_would_4 : List UInt8 := dkwX1_would_4 ++ []
def dkwX1_would_3 : List UInt8 := [25, 4, 182, 0, 180, 172, 25, 4, 182, 1, 26, 172, 25, 4, 29, 5, 160, 0, 7, 4, 167, 0, 4, 3]
abbrev dktX1_would_3 : List UInt8 := dkwX1_would_3 ++ dktX1_would_4
def dkwX1_would_2 : List UInt8 := [171, 0, 0, 0, 37, 0, 0, 0, 2, 0, 0, 0, 0, 0, 0, 0, 25, 0, 0, 0, 1, 0, 0, 0, 31]
abbrev dktX1_would_2 : List UInt8 := dkwX1_would_2 ++ dktX1_would_3
def dkwX1_would_1 : List UInt8 := [25, 4, 27, 28, 182, 1, 107, 29]
abbrev dktX1_would_1 : List UInt8 := dkwX1_would_1 ++ dktX1_would_2
def dkwX1_would_0 : List UInt8 := [27, 28, 184, 0, 174, 29, 3, 6, 184, 0, 74, 184, 0, 78, 42, 180, 0, 39, 182, 0, 90, 58, 4]
abbrev dktX1_would_0 : List UInt8 := dkwX1_would_0 ++ dktX1_would_1
theorem dksX1_would_0 : cX1_would.data.toList.drop 0 = dktX1_would_0 := by decide +kernel
theorem dksX1_would_1 : cX1_would.data.toList.drop 23 = dktX1_would_1 := dk_seg dksX1_would_0 23 rfl rfl
theorem dksX1_would_2 : cX1_would.data.toList.drop 31 = dktX1_would_2 := dk_seg dksX1_would_1 8 rfl rfl
theorem dksX1_would_3 : cX1_would.data.toList.drop 56 = dktX1_would_3 := dk_seg dksX1_would_2 25 rfl rfl
theorem dksX1_would_4 : cX1_would.data.toList.drop 80 = dktX1_would_4 := dk_seg dksX1_would_3 24 rfl rfl
theorem dX1_would_0 : decode cX1_would 0 = .ok (.iload_n 1, 1) := dk_27 (dk_at dksX1_would_0 0 rfl rfl)
theorem dX1_would_1 : decode cX1_would 1 = .ok (.iload_n 2, 1) := dk_28 (dk_at dksX1_would_0 1 rfl rfl)
theorem dX1_would_2 : decode cX1_would 2 = .ok (.invokestatic 174, 3) := dk_184 0 174 (dk_at dksX1_would_0 2 rfl rfl)
theorem dX1_would_5 : decode cX1_would 5 = .ok (.iload_n 3, 1) := dk_29 (dk_at dksX1_would_0 5 rfl rfl)
theorem dX1_would_6 : decode cX1_would 6 = .ok (.iconst 0, 1) := dk_3 (dk_at dksX1_would_0 6 rfl rfl)
theorem dX1_would_7 : decode cX1_would 7 = .ok (.iconst 3, 1) := dk_6 (dk_at dksX1_would_0 7 rfl rfl)
theorem dX1_would_8 : decode cX1_would 8 = .ok (.invokestatic 74, 3) := dk_184 0 74 (dk_at dksX1_would_0 8 rfl rfl)
theorem dX1_would_11 : decode cX1_would 11 = .ok (.invokestatic 78, 3) := dk_184 0 78 (dk_at dksX1_would_0 11 rfl rfl)
theorem dX1_would_14 : decode cX1_would 14 = .ok (.aload_n 0, 1) := dk_42 (dk_at dksX1_would_0 14 rfl rfl)
theorem dX1_would_15 : decode cX1_would 15 = .ok (.getfield 39, 3) := dk_180 0 39 (dk_at dksX1_would_0 15 rfl rfl)
theorem dX1_would_18 : decode cX1_would 18 = .ok (.invokevirtual 90, 3) := dk_182 0 90 (dk_at dksX1_would_0 18 rfl rfl)
theorem dX1_would_21 : decode cX1_would 21 = .ok (.astore 4, 2) := dk_58 4 (dk_at dksX1_would_0 21 rfl rfl)
theorem dX1_would_23 : decode cX1_would 23 = .ok (.aload 4, 2) := dk_25 4 (dk_at dksX1_would_1 0 rfl rfl)
theorem dX1_would_25 : decode cX1_would 25 = .ok (.iload_n 1, 1) := dk_27 (dk_at dksX1_would_1 2 rfl rfl)
theorem dX1_would_26 : decode cX1_would 26 = .ok (.iload_n 2, 1) := dk_28 (dk_at dksX1_would_1 3 rfl rfl)
theorem dX1_would_27 : decode cX1_would 27 = .ok (.invokevirtual 363, 3) := dk_182 1 107 (dk_at dksX1_would_1 4 rfl rfl)
theorem dX1_would_30 : decode cX1_would 30 = .ok (.iload_n 3, 1) := dk_29 (dk_at dksX1_would_1 7 rfl rfl)
theorem dX1_would_31 : decode cX1_would 31 = .ok (.lookupswitch 37 #[(0, 25), (1, 31)], 25) := by decide +kernel
theorem dX1_would_56 : decode cX1_would 56 = .ok (.aload 4, 2) := dk_25 4 (dk_at dksX1_would_3 0 rfl rfl)
theorem dX1_would_58 : decode cX1_would 58 = .ok (.invokevirtual 180, 3) := dk_182 0 180 (dk_at dksX1_would_3 2 rfl rfl)
theorem dX1_would_61 : decode cX1_would 61 = .ok (.ireturn, 1) := dk_172 (dk_at dksX1_would_3 5 rfl rfl)
theorem dX1_would_62 : decode cX1_would 62 = .ok (.aload 4, 2) := dk_25 4 (dk_at dksX1_would_3 6 rfl rfl)
theorem dX1_would_64 : decode cX1_would 64 = .ok (.invokevirtual 282, 3) := dk_182 1 26 (dk_at dksX1_would_3 8 rfl rfl)
theorem dX1_would_67 : decode cX1_would 67 = .ok (.ireturn, 1) := dk_172 (dk_at dksX1_would_3 11 rfl rfl)
theorem dX1_would_68 : decode cX1_would 68 = .ok (.aload 4, 2) := dk_25 4 (dk_at dksX1_would_3 12 rfl rfl)
theorem dX1_would_70 : decode cX1_would 70 = .ok (.iload_n 3, 1) := dk_29 (dk_at dksX1_would_3 14 rfl rfl)
theorem dX1_would_71 : decode cX1_would 71 = .ok (.iconst 2, 1) := dk_5 (dk_at dksX1_would_3 15 rfl rfl)
theorem dX1_would_72 : decode cX1_would 72 = .ok (.if_icmp .ne 7, 3) := dk_160 0 7 (dk_at dksX1_would_3 16 rfl rfl)
theorem dX1_would_75 : decode cX1_would 75 = .ok (.iconst 1, 1) := dk_4 (dk_at dksX1_would_3 19 rfl rfl)
theorem dX1_would_76 : decode cX1_would 76 = .ok (.goto 4, 3) := dk_167 0 4 (dk_at dksX1_would_3 20 rfl rfl)
theorem dX1_would_79 : decode cX1_would 79 = .ok (.iconst 0, 1) := dk_3 (dk_at dksX1_would_3 23 rfl rfl)
theorem dX1_would_80 : decode cX1_would 80 = .ok (.iconst 0, 1) := dk_3 (dk_at dksX1_would_4 0 rfl rfl)
theorem dX1_would_81 : decode cX1_would 81 = .ok (.invokevirtual 359, 3) := dk_182 1 103 (dk_at dksX1_would_4 1 rfl rfl)
theorem dX1_would_84 : decode cX1_would 84 = .ok (.ireturn, 1) := dk_172 (dk_at dksX1_would_4 4 rfl rfl)
abbrev cX1_crashed : ByteArray := prog_1_method_57_code
def yX1_crashed : MethodName := ⟨RX1, "crashed", "(I)I"⟩
def dkwX1_crashed_0 : List UInt8 := [27, 2, 17, 39, 15, 184, 0, 74, 184, 0, 78, 42, 27, 182, 1, 110, 172]
abbrev dktX1_crashed_0 : List UInt8 := dkwX1_crashed_0 ++ []
theorem dksX1_crashed_0 : cX1_crashed.data.toList.drop 0 = dktX1_crashed_0 := by decide +kernel
theorem dX1_crashed_0 : decode cX1_crashed 0 = .ok (.iload_n 1, 1) := dk_27 (dk_at dksX1_crashed_0 0 rfl rfl)
theorem dX1_crashed_1 : decode cX1_crashed 1 = .ok (.iconst (-1), 1) := dk_2 (dk_at dksX1_crashed_0 1 rfl rfl)
theorem dX1_crashed_2 : decode cX1_crashed 2 = .ok (.sipush 9999, 3) := dk_17 39 15 (dk_at dksX1_crashed_0 2 rfl rfl)
theorem dX1_crashed_5 : decode cX1_crashed 5 = .ok (.invokestatic 74, 3) := dk_184 0 74 (dk_at dksX1_crashed_0 5 rfl rfl)
theorem dX1_crashed_8 : decode cX1_crashed 8 = .ok (.invokestatic 78, 3) := dk_184 0 78 (dk_at dksX1_crashed_0 8 rfl rfl)
theorem dX1_crashed_11 : decode cX1_crashed 11 = .ok (.aload_n 0, 1) := dk_42 (dk_at dksX1_crashed_0 11 rfl rfl)
theorem dX1_crashed_12 : decode cX1_crashed 12 = .ok (.iload_n 1, 1) := dk_27 (dk_at dksX1_crashed_0 12 rfl rfl)
theorem dX1_crashed_13 : decode cX1_crashed 13 = .ok (.invokevirtual 366, 3) := dk_182 1 110 (dk_at dksX1_crashed_0 13 rfl rfl)
theorem dX1_crashed_16 : decode cX1_crashed 16 = .ok (.ireturn, 1) := dk_172 (dk_at dksX1_crashed_0 16 rfl rfl)
theorem q64 : (Jvm.Cond.initialized "Splitpointer") ∈ lw_all := lw_g (lw_at lw_m1 1 rfl) rfl
theorem q105 : (Jvm.Cond.instantiable "Splitpointer" (13 : Nat)) ∈ lw_all := lw_g (lw_at lw_m1 42 rfl) rfl
theorem q107 : (Jvm.Cond.instanceMethod ({ cls := "Splitpointer", name := "<init>", desc := "()V" } : Jvm.MethodName)) ∈ lw_all := lw_g (lw_at lw_m1 44 rfl) rfl
theorem q108 : (Jvm.Cond.code ({ cls := "Splitpointer", name := "<init>", desc := "()V" } : Jvm.MethodName) prog_1_method_6_code (1 : Nat) (Option.none : Option Jvm.ClassFile.FieldType)) ∈ lw_all := lw_g (lw_at lw_m1 45 rfl) rfl
theorem q109 : (Jvm.Cond.methodLink "Splitpointer" (25 : Nat) ({ cls := "java/lang/Object", name := "<init>", desc := "()V" } : Jvm.MethodName)) ∈ lw_all := lw_g (lw_at lw_m1 46 rfl) rfl
theorem q112 : (Jvm.Cond.classLink "Splitpointer" (34 : Nat) "Splitpointer$Store") ∈ lw_all := lw_g (lw_at lw_m1 49 rfl) rfl
theorem q114 : (Jvm.Cond.methodLink "Splitpointer" (36 : Nat) ({ cls := "Splitpointer$Store", name := "<init>", desc := "(I)V" } : Jvm.MethodName)) ∈ lw_all := lw_g (lw_at lw_m1 51 rfl) rfl
theorem q125 : (Jvm.Cond.fieldLink "Splitpointer" (276 : Nat) "Splitpointer$Hashing" "choice" "I") ∈ lw_all := lw_g (lw_at lw_m1 62 rfl) rfl
theorem q127 : (Jvm.Cond.fieldLink "Splitpointer" (279 : Nat) "Splitpointer$Hashing" "seed" "I") ∈ lw_all := lw_g (lw_at lw_m1 64 rfl) rfl
theorem q184 : (Jvm.Cond.fieldLink "Splitpointer" (195 : Nat) "Splitpointer$Bucket" "chain" "Ljava/util/ArrayList;") ∈ lw_all := lw_g (lw_at lw_m1 121 rfl) rfl
theorem q187 : (Jvm.Cond.fieldLink "Splitpointer" (298 : Nat) "Splitpointer$Bucket" "filter" "I") ∈ lw_all := lw_g (lw_at lw_m1 124 rfl) rfl
theorem q208 : (Jvm.Cond.fieldLink "Splitpointer" (261 : Nat) "Splitpointer$Page" "number" "I") ∈ lw_all := lw_g (lw_at lw_m1 145 rfl) rfl
theorem q211 : (Jvm.Cond.fieldLink "Splitpointer" (1 : Nat) "Splitpointer$Page" "rows" "Ljava/util/ArrayList;") ∈ lw_all := lw_g (lw_at lw_m1 148 rfl) rfl
theorem q250 : (Jvm.Cond.selects "Splitpointer" ({ cls := "java/lang/Object", name := "getClass", desc := "()Ljava/lang/Class;" } : Jvm.MethodName) ({ cls := "java/lang/Object", name := "getClass", desc := "()Ljava/lang/Class;" } : Jvm.MethodName)) ∈ lw_all := lw_g (lw_at lw_m1 187 rfl) rfl
theorem q290 : (Jvm.Cond.fieldLink "Splitpointer" (273 : Nat) "Splitpointer$Store" "cap" "I") ∈ lw_all := lw_g (lw_at lw_m1 227 rfl) rfl
theorem q293 : (Jvm.Cond.fieldLink "Splitpointer" (267 : Nat) "Splitpointer$Store" "lower" "I") ∈ lw_all := lw_g (lw_at lw_m1 230 rfl) rfl
theorem q296 : (Jvm.Cond.fieldLink "Splitpointer" (270 : Nat) "Splitpointer$Store" "upper" "I") ∈ lw_all := lw_g (lw_at lw_m1 233 rfl) rfl
theorem q298 : (Jvm.Cond.fieldLink "Splitpointer" (221 : Nat) "Splitpointer$Store" "level" "I") ∈ lw_all := lw_g (lw_at lw_m1 235 rfl) rfl
theorem q300 : (Jvm.Cond.fieldLink "Splitpointer" (224 : Nat) "Splitpointer$Store" "pointer" "I") ∈ lw_all := lw_g (lw_at lw_m1 237 rfl) rfl
theorem q302 : (Jvm.Cond.fieldLink "Splitpointer" (135 : Nat) "Splitpointer$Store" "size" "I") ∈ lw_all := lw_g (lw_at lw_m1 239 rfl) rfl
theorem q304 : (Jvm.Cond.fieldLink "Splitpointer" (285 : Nat) "Splitpointer$Store" "splits" "I") ∈ lw_all := lw_g (lw_at lw_m2 1 rfl) rfl
theorem q306 : (Jvm.Cond.fieldLink "Splitpointer" (288 : Nat) "Splitpointer$Store" "merges" "I") ∈ lw_all := lw_g (lw_at lw_m2 3 rfl) rfl
theorem q308 : (Jvm.Cond.fieldLink "Splitpointer" (117 : Nat) "Splitpointer$Store" "hashing" "LSplitpointer$Hashing;") ∈ lw_all := lw_g (lw_at lw_m2 5 rfl) rfl
theorem q310 : (Jvm.Cond.fieldLink "Splitpointer" (82 : Nat) "Splitpointer$Store" "buckets" "Ljava/util/ArrayList;") ∈ lw_all := lw_g (lw_at lw_m2 7 rfl) rfl
theorem q335 : (Jvm.Cond.classLink "Splitpointer" (8 : Nat) "java/util/ArrayList") ∈ lw_all := lw_g (lw_at lw_m2 32 rfl) rfl
theorem q336 : (Jvm.Cond.methodLink "Splitpointer" (46 : Nat) ({ cls := "java/util/ArrayList", name := "<init>", desc := "()V" } : Jvm.MethodName)) ∈ lw_all := lw_g (lw_at lw_m2 33 rfl) rfl
theorem q337 : (Jvm.Cond.classLink "Splitpointer" (50 : Nat) "Splitpointer$Client") ∈ lw_all := lw_g (lw_at lw_m2 34 rfl) rfl
theorem q340 : (Jvm.Cond.methodLinkNest "Splitpointer" (52 : Nat) ({ cls := "Splitpointer$Client", name := "<init>", desc := "()V" } : Jvm.MethodName) "Splitpointer") ∈ lw_tbl := lw_at lw_m2 37 rfl
theorem q345 : (Jvm.Cond.fieldLink "Splitpointer" (344 : Nat) "Splitpointer$Client" "level" "I") ∈ lw_all := lw_g (lw_at lw_m2 42 rfl) rfl
theorem q347 : (Jvm.Cond.fieldLink "Splitpointer" (345 : Nat) "Splitpointer$Client" "pointer" "I") ∈ lw_all := lw_g (lw_at lw_m2 44 rfl) rfl
theorem q353 : (Jvm.Cond.fieldLink "Splitpointer" (31 : Nat) "Splitpointer" "group" "I") ∈ lw_all := lw_g (lw_at lw_m2 50 rfl) rfl
theorem q354 : (Jvm.Cond.fieldLink "Splitpointer" (198 : Nat) "Splitpointer" "reads" "I") ∈ lw_all := lw_g (lw_at lw_m2 51 rfl) rfl
theorem q355 : (Jvm.Cond.fieldLink "Splitpointer" (205 : Nat) "Splitpointer" "falses" "I") ∈ lw_all := lw_g (lw_at lw_m2 52 rfl) rfl
theorem q356 : (Jvm.Cond.fieldLink "Splitpointer" (234 : Nat) "Splitpointer" "forwards" "I") ∈ lw_all := lw_g (lw_at lw_m2 53 rfl) rfl
theorem q357 : (Jvm.Cond.fieldLink "Splitpointer" (243 : Nat) "Splitpointer" "crashes" "I") ∈ lw_all := lw_g (lw_at lw_m2 54 rfl) rfl
theorem q358 : (Jvm.Cond.fieldLink "Splitpointer" (246 : Nat) "Splitpointer" "refused" "I") ∈ lw_all := lw_g (lw_at lw_m2 55 rfl) rfl
theorem q359 : (Jvm.Cond.fieldLink "Splitpointer" (97 : Nat) "Splitpointer" "flushed" "I") ∈ lw_all := lw_g (lw_at lw_m2 56 rfl) rfl
theorem q360 : (Jvm.Cond.fieldLink "Splitpointer" (39 : Nat) "Splitpointer" "file" "LSplitpointer$Store;") ∈ lw_all := lw_g (lw_at lw_m2 57 rfl) rfl
theorem q361 : (Jvm.Cond.fieldLink "Splitpointer" (43 : Nat) "Splitpointer" "kept" "LSplitpointer$Store;") ∈ lw_all := lw_g (lw_at lw_m2 58 rfl) rfl
theorem q362 : (Jvm.Cond.fieldLink "Splitpointer" (47 : Nat) "Splitpointer" "log" "Ljava/util/ArrayList;") ∈ lw_all := lw_g (lw_at lw_m2 59 rfl) rfl
theorem q363 : (Jvm.Cond.fieldLink "Splitpointer" (53 : Nat) "Splitpointer" "clients" "[LSplitpointer$Client;") ∈ lw_all := lw_g (lw_at lw_m2 60 rfl) rfl
theorem q364 : (Jvm.Cond.fieldLink "Splitpointer" (57 : Nat) "Splitpointer" "isOpen" "[Z") ∈ lw_all := lw_g (lw_at lw_m2 61 rfl) rfl
theorem q365 : (Jvm.Cond.fieldLink "Splitpointer" (61 : Nat) "Splitpointer" "marks" "[I") ∈ lw_all := lw_g (lw_at lw_m2 62 rfl) rfl
theorem q366 : (Jvm.Cond.lays "Splitpointer" "Splitpointer" "group" "I") ∈ lw_all := lw_g (lw_at lw_m2 63 rfl) rfl
theorem q367 : (Jvm.Cond.soleField "Splitpointer" "group") ∈ lw_all := lw_g (lw_at lw_m2 64 rfl) rfl
theorem q368 : (Jvm.Cond.lays "Splitpointer" "Splitpointer" "reads" "I") ∈ lw_all := lw_g (lw_at lw_m2 65 rfl) rfl
theorem q369 : (Jvm.Cond.soleField "Splitpointer" "reads") ∈ lw_all := lw_g (lw_at lw_m2 66 rfl) rfl
theorem q370 : (Jvm.Cond.lays "Splitpointer" "Splitpointer" "falses" "I") ∈ lw_all := lw_g (lw_at lw_m2 67 rfl) rfl
theorem q371 : (Jvm.Cond.soleField "Splitpointer" "falses") ∈ lw_all := lw_g (lw_at lw_m2 68 rfl) rfl
theorem q372 : (Jvm.Cond.lays "Splitpointer" "Splitpointer" "forwards" "I") ∈ lw_all := lw_g (lw_at lw_m2 69 rfl) rfl
theorem q373 : (Jvm.Cond.soleField "Splitpointer" "forwards") ∈ lw_all := lw_g (lw_at lw_m2 70 rfl) rfl
theorem q374 : (Jvm.Cond.lays "Splitpointer" "Splitpointer" "crashes" "I") ∈ lw_all := lw_g (lw_at lw_m2 71 rfl) rfl
theorem q375 : (Jvm.Cond.soleField "Splitpointer" "crashes") ∈ lw_all := lw_g (lw_at lw_m2 72 rfl) rfl
theorem q376 : (Jvm.Cond.lays "Splitpointer" "Splitpointer" "refused" "I") ∈ lw_all := lw_g (lw_at lw_m2 73 rfl) rfl
theorem q377 : (Jvm.Cond.soleField "Splitpointer" "refused") ∈ lw_all := lw_g (lw_at lw_m2 74 rfl) rfl
theorem q378 : (Jvm.Cond.lays "Splitpointer" "Splitpointer" "flushed" "I") ∈ lw_all := lw_g (lw_at lw_m2 75 rfl) rfl
theorem q379 : (Jvm.Cond.soleField "Splitpointer" "flushed") ∈ lw_all := lw_g (lw_at lw_m2 76 rfl) rfl
theorem q380 : (Jvm.Cond.lays "Splitpointer" "Splitpointer" "file" "LSplitpointer$Store;") ∈ lw_all := lw_g (lw_at lw_m2 77 rfl) rfl
theorem q381 : (Jvm.Cond.soleField "Splitpointer" "file") ∈ lw_all := lw_g (lw_at lw_m2 78 rfl) rfl
theorem q382 : (Jvm.Cond.lays "Splitpointer" "Splitpointer" "kept" "LSplitpointer$Store;") ∈ lw_all := lw_g (lw_at lw_m2 79 rfl) rfl
theorem q383 : (Jvm.Cond.soleField "Splitpointer" "kept") ∈ lw_all := lw_g (lw_at lw_m2 80 rfl) rfl
theorem q384 : (Jvm.Cond.laysFinal "Splitpointer" "Splitpointer" "log" "Ljava/util/ArrayList;") ∈ lw_all := lw_g (lw_at lw_m2 81 rfl) rfl
theorem q385 : (Jvm.Cond.soleField "Splitpointer" "log") ∈ lw_all := lw_g (lw_at lw_m2 82 rfl) rfl
theorem q386 : (Jvm.Cond.laysFinal "Splitpointer" "Splitpointer" "clients" "[LSplitpointer$Client;") ∈ lw_all := lw_g (lw_at lw_m2 83 rfl) rfl
theorem q387 : (Jvm.Cond.soleField "Splitpointer" "clients") ∈ lw_all := lw_g (lw_at lw_m2 84 rfl) rfl
theorem q388 : (Jvm.Cond.laysFinal "Splitpointer" "Splitpointer" "isOpen" "[Z") ∈ lw_all := lw_g (lw_at lw_m2 85 rfl) rfl
theorem q389 : (Jvm.Cond.soleField "Splitpointer" "isOpen") ∈ lw_all := lw_g (lw_at lw_m2 86 rfl) rfl
theorem q390 : (Jvm.Cond.laysFinal "Splitpointer" "Splitpointer" "marks" "[I") ∈ lw_all := lw_g (lw_at lw_m2 87 rfl) rfl
theorem q391 : (Jvm.Cond.soleField "Splitpointer" "marks") ∈ lw_all := lw_g (lw_at lw_m2 88 rfl) rfl
theorem q392 : (Jvm.Cond.superclass "Splitpointer" "java/lang/Object") ∈ lw_all := lw_g (lw_at lw_m2 89 rfl) rfl
theorem q395 : (Jvm.Cond.instanceMethod ({ cls := "Splitpointer", name := "flush", desc := "()I" } : Jvm.MethodName)) ∈ lw_all := lw_g (lw_at lw_m2 92 rfl) rfl
theorem q396 : (Jvm.Cond.selects "Splitpointer" ({ cls := "Splitpointer", name := "flush", desc := "()I" } : Jvm.MethodName) ({ cls := "Splitpointer", name := "flush", desc := "()I" } : Jvm.MethodName)) ∈ lw_all := lw_g (lw_at lw_m2 93 rfl) rfl
theorem q397 : (Jvm.Cond.code ({ cls := "Splitpointer", name := "flush", desc := "()I" } : Jvm.MethodName) prog_1_method_32_code (2 : Nat) (Option.some Jvm.ClassFile.FieldType.int)) ∈ lw_all := lw_g (lw_at lw_m2 94 rfl) rfl
theorem q398 : (Jvm.Cond.methodLink "Splitpointer" (7 : Nat) ({ cls := "java/util/ArrayList", name := "size", desc := "()I" } : Jvm.MethodName)) ∈ lw_all := lw_g (lw_at lw_m2 95 rfl) rfl
theorem q403 : (Jvm.Cond.instanceMethod ({ cls := "Splitpointer", name := "checkpoint", desc := "()I" } : Jvm.MethodName)) ∈ lw_all := lw_g (lw_at lw_m2 100 rfl) rfl
theorem q404 : (Jvm.Cond.selects "Splitpointer" ({ cls := "Splitpointer", name := "checkpoint", desc := "()I" } : Jvm.MethodName) ({ cls := "Splitpointer", name := "checkpoint", desc := "()I" } : Jvm.MethodName)) ∈ lw_all := lw_g (lw_at lw_m2 101 rfl) rfl
theorem q405 : (Jvm.Cond.code ({ cls := "Splitpointer", name := "checkpoint", desc := "()I" } : Jvm.MethodName) prog_1_method_33_code (2 : Nat) (Option.some Jvm.ClassFile.FieldType.int)) ∈ lw_all := lw_g (lw_at lw_m2 102 rfl) rfl
theorem q406 : (Jvm.Cond.methodLink "Splitpointer" (100 : Nat) ({ cls := "Splitpointer", name := "keep", desc := "()V" } : Jvm.MethodName)) ∈ lw_all := lw_g (lw_at lw_m2 103 rfl) rfl
theorem q407 : (Jvm.Cond.privateMethod ({ cls := "Splitpointer", name := "keep", desc := "()V" } : Jvm.MethodName)) ∈ lw_tbl := lw_at lw_m2 104 rfl
theorem q408 : (Jvm.Cond.instanceMethod ({ cls := "Splitpointer", name := "keep", desc := "()V" } : Jvm.MethodName)) ∈ lw_all := lw_g (lw_at lw_m2 105 rfl) rfl
theorem q409 : (Jvm.Cond.code ({ cls := "Splitpointer", name := "keep", desc := "()V" } : Jvm.MethodName) prog_1_method_15_code (1 : Nat) (Option.none : Option Jvm.ClassFile.FieldType)) ∈ lw_all := lw_g (lw_at lw_m2 106 rfl) rfl
theorem q410 : (Jvm.Cond.methodLink "Splitpointer" (90 : Nat) ({ cls := "Splitpointer$Store", name := "copy", desc := "()LSplitpointer$Store;" } : Jvm.MethodName)) ∈ lw_all := lw_g (lw_at lw_m2 107 rfl) rfl
theorem q447 : (Jvm.Cond.fieldLink "Splitpointer" (19 : Nat) "Splitpointer$Entry" "key" "I") ∈ lw_all := lw_g (lw_at lw_m2 144 rfl) rfl
theorem q451 : (Jvm.Cond.fieldLink "Splitpointer" (162 : Nat) "Splitpointer$Entry" "value" "I") ∈ lw_all := lw_g (lw_at lw_m2 148 rfl) rfl
theorem q457 : (Jvm.Cond.methodLink "Splitpointer" (94 : Nat) ({ cls := "java/util/ArrayList", name := "clear", desc := "()V" } : Jvm.MethodName)) ∈ lw_all := lw_g (lw_at lw_m2 154 rfl) rfl
theorem q459 : (Jvm.Cond.instanceMethod ({ cls := "Splitpointer", name := "crash", desc := "()I" } : Jvm.MethodName)) ∈ lw_all := lw_g (lw_at lw_m2 156 rfl) rfl
theorem q460 : (Jvm.Cond.selects "Splitpointer" ({ cls := "Splitpointer", name := "crash", desc := "()I" } : Jvm.MethodName) ({ cls := "Splitpointer", name := "crash", desc := "()I" } : Jvm.MethodName)) ∈ lw_all := lw_g (lw_at lw_m2 157 rfl) rfl
theorem q461 : (Jvm.Cond.code ({ cls := "Splitpointer", name := "crash", desc := "()I" } : Jvm.MethodName) prog_1_method_34_code (2 : Nat) (Option.some Jvm.ClassFile.FieldType.int)) ∈ lw_all := lw_g (lw_at lw_m2 158 rfl) rfl
theorem q462 : (Jvm.Cond.methodLink "Splitpointer" (237 : Nat) ({ cls := "Splitpointer", name := "recovered", desc := "()LSplitpointer$Store;" } : Jvm.MethodName)) ∈ lw_all := lw_g (lw_at lw_m2 159 rfl) rfl
theorem q463 : (Jvm.Cond.privateMethod ({ cls := "Splitpointer", name := "recovered", desc := "()LSplitpointer$Store;" } : Jvm.MethodName)) ∈ lw_tbl := lw_at lw_m2 160 rfl
theorem q464 : (Jvm.Cond.instanceMethod ({ cls := "Splitpointer", name := "recovered", desc := "()LSplitpointer$Store;" } : Jvm.MethodName)) ∈ lw_all := lw_g (lw_at lw_m2 161 rfl) rfl
theorem q465 : (Jvm.Cond.code ({ cls := "Splitpointer", name := "recovered", desc := "()LSplitpointer$Store;" } : Jvm.MethodName) prog_1_method_18_code (3 : Nat) (Option.some (Jvm.ClassFile.FieldType.object "Splitpointer$Store"))) ∈ lw_all := lw_g (lw_at lw_m2 162 rfl) rfl
theorem q466 : (Jvm.Cond.methodLink "Splitpointer" (13 : Nat) ({ cls := "java/util/ArrayList", name := "get", desc := "(I)Ljava/lang/Object;" } : Jvm.MethodName)) ∈ lw_all := lw_g (lw_at lw_m2 163 rfl) rfl
theorem q467 : (Jvm.Cond.classLink "Splitpointer" (107 : Nat) "Splitpointer$Act") ∈ lw_all := lw_g (lw_at lw_m2 164 rfl) rfl
theorem q468 : (Jvm.Cond.interfaceEntry "Splitpointer" (109 : Nat)) ∈ lw_tbl := lw_at lw_m2 165 rfl
theorem q469 : (Jvm.Cond.methodLink "Splitpointer" (109 : Nat) ({ cls := "Splitpointer$Act", name := "on", desc := "(LSplitpointer$Store;)V" } : Jvm.MethodName)) ∈ lw_all := lw_g (lw_at lw_m2 166 rfl) rfl
theorem q497 : (Jvm.Cond.static ({ cls := "Splitpointer", name := "has", desc := "(II)Z" } : Jvm.MethodName)) ∈ lw_all := lw_g (lw_at lw_m2 194 rfl) rfl
theorem q498 : (Jvm.Cond.code ({ cls := "Splitpointer", name := "has", desc := "(II)Z" } : Jvm.MethodName) prog_1_method_3_code (2 : Nat) (Option.some Jvm.ClassFile.FieldType.boolean)) ∈ lw_all := lw_g (lw_at lw_m2 195 rfl) rfl
theorem q515 : (Jvm.Cond.static ({ cls := "Splitpointer", name := "placeIn", desc := "(LSplitpointer$Page;I)I" } : Jvm.MethodName)) ∈ lw_all := lw_g (lw_at lw_m2 212 rfl) rfl
theorem q516 : (Jvm.Cond.code ({ cls := "Splitpointer", name := "placeIn", desc := "(LSplitpointer$Page;I)I" } : Jvm.MethodName) prog_1_method_4_code (3 : Nat) (Option.some Jvm.ClassFile.FieldType.int)) ∈ lw_all := lw_g (lw_at lw_m2 213 rfl) rfl
theorem q517 : (Jvm.Cond.classLink "Splitpointer" (17 : Nat) "Splitpointer$Entry") ∈ lw_all := lw_g (lw_at lw_m2 214 rfl) rfl
theorem q582 : (Jvm.Cond.static ({ cls := "Splitpointer", name := "marks", desc := "(I)I" } : Jvm.MethodName)) ∈ lw_all := lw_g (lw_at lw_m3 39 rfl) rfl
theorem q583 : (Jvm.Cond.code ({ cls := "Splitpointer", name := "marks", desc := "(I)I" } : Jvm.MethodName) prog_1_method_5_code (1 : Nat) (Option.some Jvm.ClassFile.FieldType.int)) ∈ lw_all := lw_g (lw_at lw_m3 40 rfl) rfl
theorem q623 : (Jvm.Cond.methodLink "Splitpointer" (240 : Nat) ({ cls := "java/util/ArrayList", name := "remove", desc := "(I)Ljava/lang/Object;" } : Jvm.MethodName)) ∈ lw_all := lw_g (lw_at lw_m3 80 rfl) rfl
theorem q624 : (Jvm.Cond.methodLink "Splitpointer" (137 : Nat) ({ cls := "Splitpointer", name := "closeAll", desc := "()V" } : Jvm.MethodName)) ∈ lw_all := lw_g (lw_at lw_m3 81 rfl) rfl
theorem q625 : (Jvm.Cond.privateMethod ({ cls := "Splitpointer", name := "closeAll", desc := "()V" } : Jvm.MethodName)) ∈ lw_tbl := lw_at lw_m3 82 rfl
theorem q626 : (Jvm.Cond.instanceMethod ({ cls := "Splitpointer", name := "closeAll", desc := "()V" } : Jvm.MethodName)) ∈ lw_all := lw_g (lw_at lw_m3 83 rfl) rfl
theorem q627 : (Jvm.Cond.code ({ cls := "Splitpointer", name := "closeAll", desc := "()V" } : Jvm.MethodName) prog_1_method_19_code (2 : Nat) (Option.none : Option Jvm.ClassFile.FieldType)) ∈ lw_all := lw_g (lw_at lw_m3 84 rfl) rfl
theorem q629 : (Jvm.Cond.instanceMethod ({ cls := "Splitpointer", name := "knock", desc := "()I" } : Jvm.MethodName)) ∈ lw_all := lw_g (lw_at lw_m3 86 rfl) rfl
theorem q630 : (Jvm.Cond.selects "Splitpointer" ({ cls := "Splitpointer", name := "knock", desc := "()I" } : Jvm.MethodName) ({ cls := "Splitpointer", name := "knock", desc := "()I" } : Jvm.MethodName)) ∈ lw_all := lw_g (lw_at lw_m3 87 rfl) rfl
theorem q631 : (Jvm.Cond.code ({ cls := "Splitpointer", name := "knock", desc := "()I" } : Jvm.MethodName) prog_1_method_35_code (1 : Nat) (Option.some Jvm.ClassFile.FieldType.int)) ∈ lw_all := lw_g (lw_at lw_m3 88 rfl) rfl
theorem q633 : (Jvm.Cond.instanceMethod ({ cls := "Splitpointer", name := "isSound", desc := "()Z" } : Jvm.MethodName)) ∈ lw_all := lw_g (lw_at lw_m3 90 rfl) rfl
theorem q634 : (Jvm.Cond.selects "Splitpointer" ({ cls := "Splitpointer", name := "isSound", desc := "()Z" } : Jvm.MethodName) ({ cls := "Splitpointer", name := "isSound", desc := "()Z" } : Jvm.MethodName)) ∈ lw_all := lw_g (lw_at lw_m3 91 rfl) rfl
theorem q635 : (Jvm.Cond.code ({ cls := "Splitpointer", name := "isSound", desc := "()Z" } : Jvm.MethodName) prog_1_method_61_code (1 : Nat) (Option.some Jvm.ClassFile.FieldType.boolean)) ∈ lw_all := lw_g (lw_at lw_m3 92 rfl) rfl
theorem q636 : (Jvm.Cond.methodLink "Splitpointer" (379 : Nat) ({ cls := "Splitpointer", name := "isSoundNow", desc := "()Z" } : Jvm.MethodName)) ∈ lw_all := lw_g (lw_at lw_m3 93 rfl) rfl
theorem q637 : (Jvm.Cond.privateMethod ({ cls := "Splitpointer", name := "isSoundNow", desc := "()Z" } : Jvm.MethodName)) ∈ lw_tbl := lw_at lw_m3 94 rfl
theorem q638 : (Jvm.Cond.instanceMethod ({ cls := "Splitpointer", name := "isSoundNow", desc := "()Z" } : Jvm.MethodName)) ∈ lw_all := lw_g (lw_at lw_m3 95 rfl) rfl
theorem q639 : (Jvm.Cond.code ({ cls := "Splitpointer", name := "isSoundNow", desc := "()Z" } : Jvm.MethodName) prog_1_method_60_code (7 : Nat) (Option.some Jvm.ClassFile.FieldType.boolean)) ∈ lw_all := lw_g (lw_at lw_m3 96 rfl) rfl
theorem q640 : (Jvm.Cond.methodLink "Splitpointer" (373 : Nat) ({ cls := "Splitpointer", name := "isBucketSound", desc := "(I)Z" } : Jvm.MethodName)) ∈ lw_all := lw_g (lw_at lw_m3 97 rfl) rfl
theorem q641 : (Jvm.Cond.privateMethod ({ cls := "Splitpointer", name := "isBucketSound", desc := "(I)Z" } : Jvm.MethodName)) ∈ lw_tbl := lw_at lw_m3 98 rfl
theorem q642 : (Jvm.Cond.instanceMethod ({ cls := "Splitpointer", name := "isBucketSound", desc := "(I)Z" } : Jvm.MethodName)) ∈ lw_all := lw_g (lw_at lw_m3 99 rfl) rfl
theorem q643 : (Jvm.Cond.code ({ cls := "Splitpointer", name := "isBucketSound", desc := "(I)Z" } : Jvm.MethodName) prog_1_method_59_code (7 : Nat) (Option.some Jvm.ClassFile.FieldType.boolean)) ∈ lw_all := lw_g (lw_at lw_m3 100 rfl) rfl
theorem q644 : (Jvm.Cond.classLink "Splitpointer" (88 : Nat) "Splitpointer$Bucket") ∈ lw_all := lw_g (lw_at lw_m3 101 rfl) rfl
theorem q645 : (Jvm.Cond.methodLink "Splitpointer" (113 : Nat) ({ cls := "Splitpointer$Bucket", name := "all", desc := "()Ljava/util/ArrayList;" } : Jvm.MethodName)) ∈ lw_all := lw_g (lw_at lw_m3 102 rfl) rfl
theorem q646 : (Jvm.Cond.methodLink "Splitpointer" (187 : Nat) ({ cls := "Splitpointer$Hashing", name := "of", desc := "(I)I" } : Jvm.MethodName)) ∈ lw_all := lw_g (lw_at lw_m3 103 rfl) rfl
theorem q647 : (Jvm.Cond.methodLink "Splitpointer" (256 : Nat) ({ cls := "Splitpointer$Store", name := "address", desc := "(I)I" } : Jvm.MethodName)) ∈ lw_all := lw_g (lw_at lw_m3 104 rfl) rfl
theorem q648 : (Jvm.Cond.methodLink "Splitpointer" (191 : Nat) ({ cls := "Splitpointer$Bucket", name := "lets", desc := "(I)Z" } : Jvm.MethodName)) ∈ lw_all := lw_g (lw_at lw_m3 105 rfl) rfl
theorem q653 : (Jvm.Cond.methodLink "Splitpointer" (369 : Nat) ({ cls := "Splitpointer", name := "isChainSound", desc := "(LSplitpointer$Bucket;)Z" } : Jvm.MethodName)) ∈ lw_all := lw_g (lw_at lw_m3 110 rfl) rfl
theorem q654 : (Jvm.Cond.privateMethod ({ cls := "Splitpointer", name := "isChainSound", desc := "(LSplitpointer$Bucket;)Z" } : Jvm.MethodName)) ∈ lw_tbl := lw_at lw_m3 111 rfl
theorem q655 : (Jvm.Cond.instanceMethod ({ cls := "Splitpointer", name := "isChainSound", desc := "(LSplitpointer$Bucket;)Z" } : Jvm.MethodName)) ∈ lw_all := lw_g (lw_at lw_m3 112 rfl) rfl
theorem q656 : (Jvm.Cond.code ({ cls := "Splitpointer", name := "isChainSound", desc := "(LSplitpointer$Bucket;)Z" } : Jvm.MethodName) prog_1_method_58_code (5 : Nat) (Option.some Jvm.ClassFile.FieldType.boolean)) ∈ lw_all := lw_g (lw_at lw_m3 113 rfl) rfl
theorem q657 : (Jvm.Cond.classLink "Splitpointer" (2 : Nat) "Splitpointer$Page") ∈ lw_all := lw_g (lw_at lw_m3 114 rfl) rfl
theorem q658 : (Jvm.Cond.methodLink "Splitpointer" (297 : Nat) ({ cls := "Splitpointer$Bucket", name := "size", desc := "()I" } : Jvm.MethodName)) ∈ lw_all := lw_g (lw_at lw_m3 115 rfl) rfl
theorem q662 : (Jvm.Cond.methodLink "Splitpointer" (180 : Nat) ({ cls := "Splitpointer$Store", name := "taken", desc := "()I" } : Jvm.MethodName)) ∈ lw_all := lw_g (lw_at lw_m3 119 rfl) rfl
theorem q667 : (Jvm.Cond.static ({ cls := "Splitpointer", name := "bit", desc := "(Z)I" } : Jvm.MethodName)) ∈ lw_all := lw_g (lw_at lw_m3 124 rfl) rfl
theorem q668 : (Jvm.Cond.code ({ cls := "Splitpointer", name := "bit", desc := "(Z)I" } : Jvm.MethodName) prog_1_method_2_code (1 : Nat) (Option.some Jvm.ClassFile.FieldType.int)) ∈ lw_all := lw_g (lw_at lw_m3 125 rfl) rfl
theorem q669 : (Jvm.Cond.methodLink "Splitpointer" (376 : Nat) ({ cls := "Splitpointer$Store", name := "base", desc := "()I" } : Jvm.MethodName)) ∈ lw_all := lw_g (lw_at lw_m3 126 rfl) rfl
theorem q671 : (Jvm.Cond.instanceMethod ({ cls := "Splitpointer", name := "digest", desc := "()J" } : Jvm.MethodName)) ∈ lw_all := lw_g (lw_at lw_m3 128 rfl) rfl
theorem q672 : (Jvm.Cond.selects "Splitpointer" ({ cls := "Splitpointer", name := "digest", desc := "()J" } : Jvm.MethodName) ({ cls := "Splitpointer", name := "digest", desc := "()J" } : Jvm.MethodName)) ∈ lw_all := lw_g (lw_at lw_m3 129 rfl) rfl
theorem q673 : (Jvm.Cond.code ({ cls := "Splitpointer", name := "digest", desc := "()J" } : Jvm.MethodName) prog_1_method_64_code (5 : Nat) (Option.some Jvm.ClassFile.FieldType.long)) ∈ lw_all := lw_g (lw_at lw_m3 130 rfl) rfl
theorem q674 : (Jvm.Cond.constantLong "Splitpointer" (393 : Nat) (7307 : Int64)) ∈ lw_all := lw_g (lw_at lw_m3 131 rfl) rfl
theorem q675 : (Jvm.Cond.methodLink "Splitpointer" (294 : Nat) ({ cls := "Splitpointer", name := "ofFileNow", desc := "(I)I" } : Jvm.MethodName)) ∈ lw_all := lw_g (lw_at lw_m3 132 rfl) rfl
theorem q676 : (Jvm.Cond.privateMethod ({ cls := "Splitpointer", name := "ofFileNow", desc := "(I)I" } : Jvm.MethodName)) ∈ lw_tbl := lw_at lw_m3 133 rfl
theorem q677 : (Jvm.Cond.instanceMethod ({ cls := "Splitpointer", name := "ofFileNow", desc := "(I)I" } : Jvm.MethodName)) ∈ lw_all := lw_g (lw_at lw_m3 134 rfl) rfl
theorem q678 : (Jvm.Cond.code ({ cls := "Splitpointer", name := "ofFileNow", desc := "(I)I" } : Jvm.MethodName) prog_1_method_39_code (2 : Nat) (Option.some Jvm.ClassFile.FieldType.int)) ∈ lw_all := lw_g (lw_at lw_m3 135 rfl) rfl
theorem q679 : (Jvm.Cond.methodLink "Splitpointer" (154 : Nat) ({ cls := "Splitpointer$Store", name := "load", desc := "()I" } : Jvm.MethodName)) ∈ lw_all := lw_g (lw_at lw_m3 136 rfl) rfl
theorem q680 : (Jvm.Cond.methodLink "Splitpointer" (282 : Nat) ({ cls := "Splitpointer$Store", name := "longest", desc := "()I" } : Jvm.MethodName)) ∈ lw_all := lw_g (lw_at lw_m3 137 rfl) rfl
theorem q685 : (Jvm.Cond.methodLink "Splitpointer" (291 : Nat) ({ cls := "Splitpointer", name := "ofDesk", desc := "(I)I" } : Jvm.MethodName)) ∈ lw_all := lw_g (lw_at lw_m3 142 rfl) rfl
theorem q686 : (Jvm.Cond.privateMethod ({ cls := "Splitpointer", name := "ofDesk", desc := "(I)I" } : Jvm.MethodName)) ∈ lw_tbl := lw_at lw_m3 143 rfl
theorem q687 : (Jvm.Cond.instanceMethod ({ cls := "Splitpointer", name := "ofDesk", desc := "(I)I" } : Jvm.MethodName)) ∈ lw_all := lw_g (lw_at lw_m3 144 rfl) rfl
theorem q688 : (Jvm.Cond.code ({ cls := "Splitpointer", name := "ofDesk", desc := "(I)I" } : Jvm.MethodName) prog_1_method_40_code (2 : Nat) (Option.some Jvm.ClassFile.FieldType.int)) ∈ lw_all := lw_g (lw_at lw_m3 145 rfl) rfl
theorem q689 : (Jvm.Cond.methodLink "Splitpointer" (385 : Nat) ({ cls := "Splitpointer", name := "add", desc := "(JJ)J" } : Jvm.MethodName)) ∈ lw_all := lw_g (lw_at lw_m3 146 rfl) rfl
theorem q690 : (Jvm.Cond.static ({ cls := "Splitpointer", name := "add", desc := "(JJ)J" } : Jvm.MethodName)) ∈ lw_all := lw_g (lw_at lw_m3 147 rfl) rfl
theorem q691 : (Jvm.Cond.code ({ cls := "Splitpointer", name := "add", desc := "(JJ)J" } : Jvm.MethodName) prog_1_method_62_code (4 : Nat) (Option.some Jvm.ClassFile.FieldType.long)) ∈ lw_all := lw_g (lw_at lw_m3 148 rfl) rfl
theorem q692 : (Jvm.Cond.constantLong "Splitpointer" (383 : Nat) (31 : Int64)) ∈ lw_all := lw_g (lw_at lw_m3 149 rfl) rfl
theorem q693 : (Jvm.Cond.methodLink "Splitpointer" (395 : Nat) ({ cls := "Splitpointer", name := "addFile", desc := "(J)J" } : Jvm.MethodName)) ∈ lw_all := lw_g (lw_at lw_m3 150 rfl) rfl
theorem q694 : (Jvm.Cond.privateMethod ({ cls := "Splitpointer", name := "addFile", desc := "(J)J" } : Jvm.MethodName)) ∈ lw_tbl := lw_at lw_m3 151 rfl
theorem q695 : (Jvm.Cond.instanceMethod ({ cls := "Splitpointer", name := "addFile", desc := "(J)J" } : Jvm.MethodName)) ∈ lw_all := lw_g (lw_at lw_m3 152 rfl) rfl
theorem q696 : (Jvm.Cond.code ({ cls := "Splitpointer", name := "addFile", desc := "(J)J" } : Jvm.MethodName) prog_1_method_63_code (8 : Nat) (Option.some Jvm.ClassFile.FieldType.long)) ∈ lw_all := lw_g (lw_at lw_m3 153 rfl) rfl
theorem q697 : (Jvm.Cond.methodLink "Splitpointer" (308 : Nat) ({ cls := "Splitpointer", name := "ofBucketNow", desc := "(II)I" } : Jvm.MethodName)) ∈ lw_all := lw_g (lw_at lw_m3 154 rfl) rfl
theorem q698 : (Jvm.Cond.privateMethod ({ cls := "Splitpointer", name := "ofBucketNow", desc := "(II)I" } : Jvm.MethodName)) ∈ lw_tbl := lw_at lw_m3 155 rfl
theorem q699 : (Jvm.Cond.instanceMethod ({ cls := "Splitpointer", name := "ofBucketNow", desc := "(II)I" } : Jvm.MethodName)) ∈ lw_all := lw_g (lw_at lw_m3 156 rfl) rfl
theorem q700 : (Jvm.Cond.code ({ cls := "Splitpointer", name := "ofBucketNow", desc := "(II)I" } : Jvm.MethodName) prog_1_method_42_code (4 : Nat) (Option.some Jvm.ClassFile.FieldType.int)) ∈ lw_all := lw_g (lw_at lw_m3 157 rfl) rfl
theorem q701 : (Jvm.Cond.methodLink "Splitpointer" (211 : Nat) ({ cls := "Splitpointer$Store", name := "depth", desc := "(I)I" } : Jvm.MethodName)) ∈ lw_all := lw_g (lw_at lw_m3 158 rfl) rfl
theorem q705 : (Jvm.Cond.methodLink "Splitpointer" (301 : Nat) ({ cls := "Splitpointer$Bucket", name := "last", desc := "()LSplitpointer$Page;" } : Jvm.MethodName)) ∈ lw_all := lw_g (lw_at lw_m3 162 rfl) rfl
theorem q706 : (Jvm.Cond.methodLink "Splitpointer" (333 : Nat) ({ cls := "Splitpointer", name := "chainOf", desc := "(LSplitpointer$Bucket;)Ljava/lang/String;" } : Jvm.MethodName)) ∈ lw_all := lw_g (lw_at lw_m3 163 rfl) rfl
theorem q707 : (Jvm.Cond.static ({ cls := "Splitpointer", name := "chainOf", desc := "(LSplitpointer$Bucket;)Ljava/lang/String;" } : Jvm.MethodName)) ∈ lw_all := lw_g (lw_at lw_m3 164 rfl) rfl
theorem q708 : (Jvm.Cond.code ({ cls := "Splitpointer", name := "chainOf", desc := "(LSplitpointer$Bucket;)Ljava/lang/String;" } : Jvm.MethodName) prog_1_method_44_code (5 : Nat) (Option.some (Jvm.ClassFile.FieldType.object "java/lang/String"))) ∈ lw_all := lw_g (lw_at lw_m3 165 rfl) rfl
theorem q709 : (Jvm.Cond.stringRef "Splitpointer" (311 : Nat) "-") ∈ lw_tbl := lw_at lw_m3 166 rfl
theorem q710 : (Jvm.Cond.classLink "Splitpointer" (313 : Nat) "java/lang/StringBuilder") ∈ lw_all := lw_g (lw_at lw_m3 167 rfl) rfl
theorem q712 : (Jvm.Cond.methodLink "Splitpointer" (315 : Nat) ({ cls := "java/lang/StringBuilder", name := "<init>", desc := "()V" } : Jvm.MethodName)) ∈ lw_all := lw_g (lw_at lw_m3 169 rfl) rfl
theorem q742 : (Jvm.Cond.stringRef "Splitpointer" (316 : Nat) "") ∈ lw_tbl := lw_at lw_m3 199 rfl
theorem q743 : (Jvm.Cond.stringRef "Splitpointer" (318 : Nat) "|") ∈ lw_tbl := lw_at lw_m3 200 rfl
theorem q744 : (Jvm.Cond.methodLink "Splitpointer" (320 : Nat) ({ cls := "java/lang/StringBuilder", name := "append", desc := "(Ljava/lang/String;)Ljava/lang/StringBuilder;" } : Jvm.MethodName)) ∈ lw_all := lw_g (lw_at lw_m3 201 rfl) rfl
theorem q849 : (Jvm.Cond.stringRef "Splitpointer" (324 : Nat) " ") ∈ lw_tbl := lw_at lw_m4 66 rfl
theorem q850 : (Jvm.Cond.methodLink "Splitpointer" (326 : Nat) ({ cls := "java/lang/StringBuilder", name := "append", desc := "(I)Ljava/lang/StringBuilder;" } : Jvm.MethodName)) ∈ lw_all := lw_g (lw_at lw_m4 67 rfl) rfl
theorem q875 : (Jvm.Cond.methodLink "Splitpointer" (329 : Nat) ({ cls := "java/lang/StringBuilder", name := "toString", desc := "()Ljava/lang/String;" } : Jvm.MethodName)) ∈ lw_all := lw_g (lw_at lw_m4 92 rfl) rfl
theorem q1008 : (Jvm.Cond.methodLink "Splitpointer" (388 : Nat) ({ cls := "java/lang/String", name := "length", desc := "()I" } : Jvm.MethodName)) ∈ lw_all := lw_g (lw_at lw_m4 225 rfl) rfl
theorem q1009 : (Jvm.Cond.methodLink "Splitpointer" (341 : Nat) ({ cls := "Splitpointer", name := "markNow", desc := "(I)I" } : Jvm.MethodName)) ∈ lw_all := lw_g (lw_at lw_m4 226 rfl) rfl
theorem q1010 : (Jvm.Cond.privateMethod ({ cls := "Splitpointer", name := "markNow", desc := "(I)I" } : Jvm.MethodName)) ∈ lw_tbl := lw_at lw_m4 227 rfl
theorem q1011 : (Jvm.Cond.instanceMethod ({ cls := "Splitpointer", name := "markNow", desc := "(I)I" } : Jvm.MethodName)) ∈ lw_all := lw_g (lw_at lw_m4 228 rfl) rfl
theorem q1012 : (Jvm.Cond.code ({ cls := "Splitpointer", name := "markNow", desc := "(I)I" } : Jvm.MethodName) prog_1_method_48_code (2 : Nat) (Option.some Jvm.ClassFile.FieldType.int)) ∈ lw_all := lw_g (lw_at lw_m4 229 rfl) rfl
theorem q1013 : (Jvm.Cond.methodLink "Splitpointer" (348 : Nat) ({ cls := "Splitpointer", name := "ofClientNow", desc := "(LSplitpointer$Client;I)I" } : Jvm.MethodName)) ∈ lw_all := lw_g (lw_at lw_m4 230 rfl) rfl
theorem q1014 : (Jvm.Cond.privateMethod ({ cls := "Splitpointer", name := "ofClientNow", desc := "(LSplitpointer$Client;I)I" } : Jvm.MethodName)) ∈ lw_tbl := lw_at lw_m4 231 rfl
theorem q1015 : (Jvm.Cond.instanceMethod ({ cls := "Splitpointer", name := "ofClientNow", desc := "(LSplitpointer$Client;I)I" } : Jvm.MethodName)) ∈ lw_all := lw_g (lw_at lw_m4 232 rfl) rfl
theorem q1016 : (Jvm.Cond.code ({ cls := "Splitpointer", name := "ofClientNow", desc := "(LSplitpointer$Client;I)I" } : Jvm.MethodName) prog_1_method_50_code (3 : Nat) (Option.some Jvm.ClassFile.FieldType.int)) ∈ lw_all := lw_g (lw_at lw_m4 233 rfl) rfl
theorem q1017 : (Jvm.Cond.methodLink "Splitpointer" (346 : Nat) ({ cls := "Splitpointer$Client", name := "buckets", desc := "()I" } : Jvm.MethodName)) ∈ lw_all := lw_g (lw_at lw_m4 234 rfl) rfl
theorem q1021 : (Jvm.Cond.methodLink "Splitpointer" (359 : Nat) ({ cls := "Splitpointer$Store", name := "visits", desc := "(ZI)I" } : Jvm.MethodName)) ∈ lw_all := lw_g (lw_at lw_m4 238 rfl) rfl
theorem q1030 : (Jvm.Cond.methodLink "Splitpointer" (366 : Nat) ({ cls := "Splitpointer", name := "crashedNow", desc := "(I)I" } : Jvm.MethodName)) ∈ lw_all := lw_g (lw_at lw_m5 7 rfl) rfl
theorem q1031 : (Jvm.Cond.privateMethod ({ cls := "Splitpointer", name := "crashedNow", desc := "(I)I" } : Jvm.MethodName)) ∈ lw_tbl := lw_at lw_m5 8 rfl
theorem q1032 : (Jvm.Cond.instanceMethod ({ cls := "Splitpointer", name := "crashedNow", desc := "(I)I" } : Jvm.MethodName)) ∈ lw_all := lw_g (lw_at lw_m5 9 rfl) rfl
theorem q1033 : (Jvm.Cond.code ({ cls := "Splitpointer", name := "crashedNow", desc := "(I)I" } : Jvm.MethodName) prog_1_method_56_code (4 : Nat) (Option.some Jvm.ClassFile.FieldType.int)) ∈ lw_all := lw_g (lw_at lw_m5 10 rfl) rfl
theorem q1034 : (Jvm.Cond.methodLink "Splitpointer" (157 : Nat) ({ cls := "Splitpointer$Store", name := "get", desc := "(I)LSplitpointer$Entry;" } : Jvm.MethodName)) ∈ lw_all := lw_g (lw_at lw_m5 11 rfl) rfl
theorem q1035 : (Jvm.Cond.methodLink "Splitpointer" (257 : Nat) ({ cls := "Splitpointer", name := "bit", desc := "(Z)I" } : Jvm.MethodName)) ∈ lw_all := lw_g (lw_at lw_m5 12 rfl) rfl
theorem q1054 : (Jvm.Cond.instanceMethod ({ cls := "Splitpointer", name := "found", desc := "(II)I" } : Jvm.MethodName)) ∈ lw_all := lw_g (lw_at lw_m5 31 rfl) rfl
theorem q1055 : (Jvm.Cond.selects "Splitpointer" ({ cls := "Splitpointer", name := "found", desc := "(II)I" } : Jvm.MethodName) ({ cls := "Splitpointer", name := "found", desc := "(II)I" } : Jvm.MethodName)) ∈ lw_all := lw_g (lw_at lw_m5 32 rfl) rfl
theorem q1056 : (Jvm.Cond.code ({ cls := "Splitpointer", name := "found", desc := "(II)I" } : Jvm.MethodName) prog_1_method_22_code (5 : Nat) (Option.some Jvm.ClassFile.FieldType.int)) ∈ lw_all := lw_g (lw_at lw_m5 33 rfl) rfl
theorem q1057 : (Jvm.Cond.methodLink "Splitpointer" (74 : Nat) ({ cls := "Splitpointer", name := "isIn", desc := "(III)Z" } : Jvm.MethodName)) ∈ lw_all := lw_g (lw_at lw_m5 34 rfl) rfl
theorem q1058 : (Jvm.Cond.static ({ cls := "Splitpointer", name := "isIn", desc := "(III)Z" } : Jvm.MethodName)) ∈ lw_all := lw_g (lw_at lw_m5 35 rfl) rfl
theorem q1059 : (Jvm.Cond.code ({ cls := "Splitpointer", name := "isIn", desc := "(III)Z" } : Jvm.MethodName) prog_1_method_1_code (3 : Nat) (Option.some Jvm.ClassFile.FieldType.boolean)) ∈ lw_all := lw_g (lw_at lw_m5 36 rfl) rfl
theorem q1060 : (Jvm.Cond.methodLink "Splitpointer" (78 : Nat) ({ cls := "Splitpointer", name := "mustFit", desc := "(Z)V" } : Jvm.MethodName)) ∈ lw_all := lw_g (lw_at lw_m5 37 rfl) rfl
theorem q1061 : (Jvm.Cond.static ({ cls := "Splitpointer", name := "mustFit", desc := "(Z)V" } : Jvm.MethodName)) ∈ lw_all := lw_g (lw_at lw_m5 38 rfl) rfl
theorem q1062 : (Jvm.Cond.code ({ cls := "Splitpointer", name := "mustFit", desc := "(Z)V" } : Jvm.MethodName) prog_1_method_8_code (1 : Nat) (Option.none : Option Jvm.ClassFile.FieldType)) ∈ lw_all := lw_g (lw_at lw_m5 39 rfl) rfl
theorem q1063 : (Jvm.Cond.classLink "Splitpointer" (68 : Nat) "java/lang/IllegalArgumentException") ∈ lw_all := lw_g (lw_at lw_m5 40 rfl) rfl
theorem q1064 : (Jvm.Cond.methodLink "Splitpointer" (70 : Nat) ({ cls := "java/lang/IllegalArgumentException", name := "<init>", desc := "()V" } : Jvm.MethodName)) ∈ lw_all := lw_g (lw_at lw_m5 41 rfl) rfl
theorem q1074 : (Jvm.Cond.methodLink "Splitpointer" (140 : Nat) ({ cls := "Splitpointer$Client", name := "see", desc := "(II)V" } : Jvm.MethodName)) ∈ lw_all := lw_g (lw_at lw_m5 51 rfl) rfl
theorem q1082 : (Jvm.Cond.instanceMethod ({ cls := "Splitpointer", name := "bounds", desc := "(II)I" } : Jvm.MethodName)) ∈ lw_all := lw_g (lw_at lw_m5 59 rfl) rfl
theorem q1083 : (Jvm.Cond.selects "Splitpointer" ({ cls := "Splitpointer", name := "bounds", desc := "(II)I" } : Jvm.MethodName) ({ cls := "Splitpointer", name := "bounds", desc := "(II)I" } : Jvm.MethodName)) ∈ lw_all := lw_g (lw_at lw_m5 60 rfl) rfl
theorem q1084 : (Jvm.Cond.code ({ cls := "Splitpointer", name := "bounds", desc := "(II)I" } : Jvm.MethodName) prog_1_method_23_code (4 : Nat) (Option.some Jvm.ClassFile.FieldType.int)) ∈ lw_all := lw_g (lw_at lw_m5 61 rfl) rfl
theorem q1085 : (Jvm.Cond.methodLink "Splitpointer" (144 : Nat) ({ cls := "Splitpointer", name := "makeRoom", desc := "()V" } : Jvm.MethodName)) ∈ lw_all := lw_g (lw_at lw_m5 62 rfl) rfl
theorem q1086 : (Jvm.Cond.privateMethod ({ cls := "Splitpointer", name := "makeRoom", desc := "()V" } : Jvm.MethodName)) ∈ lw_tbl := lw_at lw_m5 63 rfl
theorem q1087 : (Jvm.Cond.instanceMethod ({ cls := "Splitpointer", name := "makeRoom", desc := "()V" } : Jvm.MethodName)) ∈ lw_all := lw_g (lw_at lw_m5 64 rfl) rfl
theorem q1088 : (Jvm.Cond.code ({ cls := "Splitpointer", name := "makeRoom", desc := "()V" } : Jvm.MethodName) prog_1_method_16_code (1 : Nat) (Option.none : Option Jvm.ClassFile.FieldType)) ∈ lw_all := lw_g (lw_at lw_m5 65 rfl) rfl
theorem q1089 : (Jvm.Cond.classLink "Splitpointer" (147 : Nat) "Splitpointer$Bounds") ∈ lw_all := lw_g (lw_at lw_m5 66 rfl) rfl
theorem q1091 : (Jvm.Cond.methodLink "Splitpointer" (149 : Nat) ({ cls := "Splitpointer$Bounds", name := "<init>", desc := "(II)V" } : Jvm.MethodName)) ∈ lw_all := lw_g (lw_at lw_m5 68 rfl) rfl
theorem q1102 : (Jvm.Cond.methodLink "Splitpointer" (151 : Nat) ({ cls := "Splitpointer", name := "log", desc := "(LSplitpointer$Act;)V" } : Jvm.MethodName)) ∈ lw_all := lw_g (lw_at lw_m5 79 rfl) rfl
theorem q1103 : (Jvm.Cond.privateMethod ({ cls := "Splitpointer", name := "log", desc := "(LSplitpointer$Act;)V" } : Jvm.MethodName)) ∈ lw_tbl := lw_at lw_m5 80 rfl
theorem q1104 : (Jvm.Cond.instanceMethod ({ cls := "Splitpointer", name := "log", desc := "(LSplitpointer$Act;)V" } : Jvm.MethodName)) ∈ lw_all := lw_g (lw_at lw_m5 81 rfl) rfl
theorem q1105 : (Jvm.Cond.code ({ cls := "Splitpointer", name := "log", desc := "(LSplitpointer$Act;)V" } : Jvm.MethodName) prog_1_method_17_code (2 : Nat) (Option.none : Option Jvm.ClassFile.FieldType)) ∈ lw_all := lw_g (lw_at lw_m5 82 rfl) rfl
theorem q1106 : (Jvm.Cond.methodLink "Splitpointer" (103 : Nat) ({ cls := "java/util/ArrayList", name := "add", desc := "(Ljava/lang/Object;)Z" } : Jvm.MethodName)) ∈ lw_all := lw_g (lw_at lw_m5 83 rfl) rfl
theorem q1112 : (Jvm.Cond.instanceMethod ({ cls := "Splitpointer", name := "put", desc := "(II)I" } : Jvm.MethodName)) ∈ lw_all := lw_g (lw_at lw_m5 89 rfl) rfl
theorem q1113 : (Jvm.Cond.selects "Splitpointer" ({ cls := "Splitpointer", name := "put", desc := "(II)I" } : Jvm.MethodName) ({ cls := "Splitpointer", name := "put", desc := "(II)I" } : Jvm.MethodName)) ∈ lw_all := lw_g (lw_at lw_m5 90 rfl) rfl
theorem q1114 : (Jvm.Cond.code ({ cls := "Splitpointer", name := "put", desc := "(II)I" } : Jvm.MethodName) prog_1_method_24_code (6 : Nat) (Option.some Jvm.ClassFile.FieldType.int)) ∈ lw_all := lw_g (lw_at lw_m5 91 rfl) rfl
theorem q1115 : (Jvm.Cond.methodLink "Splitpointer" (159 : Nat) ({ cls := "Splitpointer", name := "mustStand", desc := "(Z)V" } : Jvm.MethodName)) ∈ lw_all := lw_g (lw_at lw_m5 92 rfl) rfl
theorem q1116 : (Jvm.Cond.static ({ cls := "Splitpointer", name := "mustStand", desc := "(Z)V" } : Jvm.MethodName)) ∈ lw_all := lw_g (lw_at lw_m5 93 rfl) rfl
theorem q1117 : (Jvm.Cond.code ({ cls := "Splitpointer", name := "mustStand", desc := "(Z)V" } : Jvm.MethodName) prog_1_method_9_code (1 : Nat) (Option.none : Option Jvm.ClassFile.FieldType)) ∈ lw_all := lw_g (lw_at lw_m5 94 rfl) rfl
theorem q1118 : (Jvm.Cond.classLink "Splitpointer" (71 : Nat) "java/lang/IllegalStateException") ∈ lw_all := lw_g (lw_at lw_m5 95 rfl) rfl
theorem q1127 : (Jvm.Cond.methodLink "Splitpointer" (73 : Nat) ({ cls := "java/lang/IllegalStateException", name := "<init>", desc := "()V" } : Jvm.MethodName)) ∈ lw_all := lw_g (lw_at lw_m5 104 rfl) rfl
theorem q1133 : (Jvm.Cond.classLink "Splitpointer" (165 : Nat) "Splitpointer$Put") ∈ lw_all := lw_g (lw_at lw_m5 110 rfl) rfl
theorem q1135 : (Jvm.Cond.methodLink "Splitpointer" (167 : Nat) ({ cls := "Splitpointer$Put", name := "<init>", desc := "(II)V" } : Jvm.MethodName)) ∈ lw_all := lw_g (lw_at lw_m5 112 rfl) rfl
theorem q1150 : (Jvm.Cond.instanceMethod ({ cls := "Splitpointer", name := "drop", desc := "(I)I" } : Jvm.MethodName)) ∈ lw_all := lw_g (lw_at lw_m5 127 rfl) rfl
theorem q1151 : (Jvm.Cond.selects "Splitpointer" ({ cls := "Splitpointer", name := "drop", desc := "(I)I" } : Jvm.MethodName) ({ cls := "Splitpointer", name := "drop", desc := "(I)I" } : Jvm.MethodName)) ∈ lw_all := lw_g (lw_at lw_m5 128 rfl) rfl
theorem q1152 : (Jvm.Cond.code ({ cls := "Splitpointer", name := "drop", desc := "(I)I" } : Jvm.MethodName) prog_1_method_25_code (5 : Nat) (Option.some Jvm.ClassFile.FieldType.int)) ∈ lw_all := lw_g (lw_at lw_m5 129 rfl) rfl
theorem q1153 : (Jvm.Cond.methodLink "Splitpointer" (168 : Nat) ({ cls := "Splitpointer", name := "mustBeKey", desc := "(I)V" } : Jvm.MethodName)) ∈ lw_all := lw_g (lw_at lw_m5 130 rfl) rfl
theorem q1154 : (Jvm.Cond.static ({ cls := "Splitpointer", name := "mustBeKey", desc := "(I)V" } : Jvm.MethodName)) ∈ lw_all := lw_g (lw_at lw_m5 131 rfl) rfl
theorem q1155 : (Jvm.Cond.code ({ cls := "Splitpointer", name := "mustBeKey", desc := "(I)V" } : Jvm.MethodName) prog_1_method_10_code (1 : Nat) (Option.none : Option Jvm.ClassFile.FieldType)) ∈ lw_all := lw_g (lw_at lw_m5 132 rfl) rfl
theorem q1156 : (Jvm.Cond.classLink "Splitpointer" (171 : Nat) "Splitpointer$Drop") ∈ lw_all := lw_g (lw_at lw_m5 133 rfl) rfl
theorem q1158 : (Jvm.Cond.methodLink "Splitpointer" (173 : Nat) ({ cls := "Splitpointer$Drop", name := "<init>", desc := "(I)V" } : Jvm.MethodName)) ∈ lw_all := lw_g (lw_at lw_m5 135 rfl) rfl
theorem q1170 : (Jvm.Cond.instanceMethod ({ cls := "Splitpointer", name := "rehash", desc := "(II)I" } : Jvm.MethodName)) ∈ lw_all := lw_g (lw_at lw_m5 147 rfl) rfl
theorem q1171 : (Jvm.Cond.selects "Splitpointer" ({ cls := "Splitpointer", name := "rehash", desc := "(II)I" } : Jvm.MethodName) ({ cls := "Splitpointer", name := "rehash", desc := "(II)I" } : Jvm.MethodName)) ∈ lw_all := lw_g (lw_at lw_m5 148 rfl) rfl
theorem q1172 : (Jvm.Cond.code ({ cls := "Splitpointer", name := "rehash", desc := "(II)I" } : Jvm.MethodName) prog_1_method_26_code (4 : Nat) (Option.some Jvm.ClassFile.FieldType.int)) ∈ lw_all := lw_g (lw_at lw_m5 149 rfl) rfl
theorem q1173 : (Jvm.Cond.methodLink "Splitpointer" (174 : Nat) ({ cls := "Splitpointer", name := "mustBeHashing", desc := "(II)V" } : Jvm.MethodName)) ∈ lw_all := lw_g (lw_at lw_m5 150 rfl) rfl
theorem q1174 : (Jvm.Cond.static ({ cls := "Splitpointer", name := "mustBeHashing", desc := "(II)V" } : Jvm.MethodName)) ∈ lw_all := lw_g (lw_at lw_m5 151 rfl) rfl
theorem q1175 : (Jvm.Cond.code ({ cls := "Splitpointer", name := "mustBeHashing", desc := "(II)V" } : Jvm.MethodName) prog_1_method_11_code (2 : Nat) (Option.none : Option Jvm.ClassFile.FieldType)) ∈ lw_all := lw_g (lw_at lw_m5 152 rfl) rfl
theorem q1176 : (Jvm.Cond.classLink "Splitpointer" (177 : Nat) "Splitpointer$Rehash") ∈ lw_all := lw_g (lw_at lw_m5 153 rfl) rfl
theorem q1178 : (Jvm.Cond.methodLink "Splitpointer" (179 : Nat) ({ cls := "Splitpointer$Rehash", name := "<init>", desc := "(II)V" } : Jvm.MethodName)) ∈ lw_all := lw_g (lw_at lw_m5 155 rfl) rfl
theorem q1193 : (Jvm.Cond.instanceMethod ({ cls := "Splitpointer", name := "find", desc := "(I)I" } : Jvm.MethodName)) ∈ lw_all := lw_g (lw_at lw_m5 170 rfl) rfl
theorem q1194 : (Jvm.Cond.selects "Splitpointer" ({ cls := "Splitpointer", name := "find", desc := "(I)I" } : Jvm.MethodName) ({ cls := "Splitpointer", name := "find", desc := "(I)I" } : Jvm.MethodName)) ∈ lw_all := lw_g (lw_at lw_m5 171 rfl) rfl
theorem q1195 : (Jvm.Cond.code ({ cls := "Splitpointer", name := "find", desc := "(I)I" } : Jvm.MethodName) prog_1_method_27_code (6 : Nat) (Option.some Jvm.ClassFile.FieldType.int)) ∈ lw_all := lw_g (lw_at lw_m5 172 rfl) rfl
theorem q1196 : (Jvm.Cond.methodLink "Splitpointer" (183 : Nat) ({ cls := "Splitpointer$Store", name := "bucketOf", desc := "(I)LSplitpointer$Bucket;" } : Jvm.MethodName)) ∈ lw_all := lw_g (lw_at lw_m5 173 rfl) rfl
theorem q1197 : (Jvm.Cond.methodLink "Splitpointer" (201 : Nat) ({ cls := "Splitpointer", name := "placeIn", desc := "(LSplitpointer$Page;I)I" } : Jvm.MethodName)) ∈ lw_all := lw_g (lw_at lw_m5 174 rfl) rfl
theorem q1221 : (Jvm.Cond.instanceMethod ({ cls := "Splitpointer", name := "open", desc := "(I)Z" } : Jvm.MethodName)) ∈ lw_all := lw_g (lw_at lw_m5 198 rfl) rfl
theorem q1222 : (Jvm.Cond.selects "Splitpointer" ({ cls := "Splitpointer", name := "open", desc := "(I)Z" } : Jvm.MethodName) ({ cls := "Splitpointer", name := "open", desc := "(I)Z" } : Jvm.MethodName)) ∈ lw_all := lw_g (lw_at lw_m5 199 rfl) rfl
theorem q1223 : (Jvm.Cond.code ({ cls := "Splitpointer", name := "open", desc := "(I)Z" } : Jvm.MethodName) prog_1_method_28_code (3 : Nat) (Option.some Jvm.ClassFile.FieldType.boolean)) ∈ lw_all := lw_g (lw_at lw_m5 200 rfl) rfl
theorem q1224 : (Jvm.Cond.methodLink "Splitpointer" (208 : Nat) ({ cls := "Splitpointer", name := "mustBeCursor", desc := "(I)V" } : Jvm.MethodName)) ∈ lw_all := lw_g (lw_at lw_m5 201 rfl) rfl
theorem q1225 : (Jvm.Cond.static ({ cls := "Splitpointer", name := "mustBeCursor", desc := "(I)V" } : Jvm.MethodName)) ∈ lw_all := lw_g (lw_at lw_m5 202 rfl) rfl
theorem q1226 : (Jvm.Cond.code ({ cls := "Splitpointer", name := "mustBeCursor", desc := "(I)V" } : Jvm.MethodName) prog_1_method_13_code (1 : Nat) (Option.none : Option Jvm.ClassFile.FieldType)) ∈ lw_all := lw_g (lw_at lw_m5 203 rfl) rfl
theorem q1227 : (Jvm.Cond.methodLink "Splitpointer" (85 : Nat) ({ cls := "Splitpointer", name := "mustBe", desc := "(Z)V" } : Jvm.MethodName)) ∈ lw_all := lw_g (lw_at lw_m5 204 rfl) rfl
theorem q1228 : (Jvm.Cond.static ({ cls := "Splitpointer", name := "mustBe", desc := "(Z)V" } : Jvm.MethodName)) ∈ lw_all := lw_g (lw_at lw_m5 205 rfl) rfl
theorem q1229 : (Jvm.Cond.code ({ cls := "Splitpointer", name := "mustBe", desc := "(Z)V" } : Jvm.MethodName) prog_1_method_7_code (1 : Nat) (Option.none : Option Jvm.ClassFile.FieldType)) ∈ lw_all := lw_g (lw_at lw_m5 206 rfl) rfl
theorem q1230 : (Jvm.Cond.classLink "Splitpointer" (65 : Nat) "java/lang/IndexOutOfBoundsException") ∈ lw_all := lw_g (lw_at lw_m5 207 rfl) rfl
theorem q1239 : (Jvm.Cond.methodLink "Splitpointer" (67 : Nat) ({ cls := "java/lang/IndexOutOfBoundsException", name := "<init>", desc := "()V" } : Jvm.MethodName)) ∈ lw_all := lw_g (lw_at lw_m5 216 rfl) rfl
theorem q1249 : (Jvm.Cond.instanceMethod ({ cls := "Splitpointer", name := "next", desc := "(I)I" } : Jvm.MethodName)) ∈ lw_all := lw_g (lw_at lw_m5 226 rfl) rfl
theorem q1250 : (Jvm.Cond.selects "Splitpointer" ({ cls := "Splitpointer", name := "next", desc := "(I)I" } : Jvm.MethodName) ({ cls := "Splitpointer", name := "next", desc := "(I)I" } : Jvm.MethodName)) ∈ lw_all := lw_g (lw_at lw_m5 227 rfl) rfl
theorem q1251 : (Jvm.Cond.code ({ cls := "Splitpointer", name := "next", desc := "(I)I" } : Jvm.MethodName) prog_1_method_29_code (3 : Nat) (Option.some Jvm.ClassFile.FieldType.int)) ∈ lw_all := lw_g (lw_at lw_m5 228 rfl) rfl
theorem q1252 : (Jvm.Cond.methodLink "Splitpointer" (127 : Nat) ({ cls := "Splitpointer", name := "behind", desc := "(I)LSplitpointer$Entry;" } : Jvm.MethodName)) ∈ lw_all := lw_g (lw_at lw_m5 229 rfl) rfl
theorem q1253 : (Jvm.Cond.privateMethod ({ cls := "Splitpointer", name := "behind", desc := "(I)LSplitpointer$Entry;" } : Jvm.MethodName)) ∈ lw_tbl := lw_at lw_m5 230 rfl
theorem q1254 : (Jvm.Cond.instanceMethod ({ cls := "Splitpointer", name := "behind", desc := "(I)LSplitpointer$Entry;" } : Jvm.MethodName)) ∈ lw_all := lw_g (lw_at lw_m5 231 rfl) rfl
theorem q1255 : (Jvm.Cond.code ({ cls := "Splitpointer", name := "behind", desc := "(I)LSplitpointer$Entry;" } : Jvm.MethodName) prog_1_method_20_code (8 : Nat) (Option.some (Jvm.ClassFile.FieldType.object "Splitpointer$Entry"))) ∈ lw_all := lw_g (lw_at lw_m5 232 rfl) rfl
theorem q1256 : (Jvm.Cond.methodLink "Splitpointer" (121 : Nat) ({ cls := "Splitpointer$Hashing", name := "isAhead", desc := "(II)Z" } : Jvm.MethodName)) ∈ lw_all := lw_g (lw_at lw_m5 233 rfl) rfl
theorem q1269 : (Jvm.Cond.instanceMethod ({ cls := "Splitpointer", name := "ask", desc := "(II)I" } : Jvm.MethodName)) ∈ lw_all := lw_g (lw_at lw_m6 6 rfl) rfl
theorem q1270 : (Jvm.Cond.selects "Splitpointer" ({ cls := "Splitpointer", name := "ask", desc := "(II)I" } : Jvm.MethodName) ({ cls := "Splitpointer", name := "ask", desc := "(II)I" } : Jvm.MethodName)) ∈ lw_all := lw_g (lw_at lw_m6 7 rfl) rfl
theorem q1271 : (Jvm.Cond.code ({ cls := "Splitpointer", name := "ask", desc := "(II)I" } : Jvm.MethodName) prog_1_method_31_code (9 : Nat) (Option.some Jvm.ClassFile.FieldType.int)) ∈ lw_all := lw_g (lw_at lw_m6 8 rfl) rfl
theorem q1272 : (Jvm.Cond.methodLink "Splitpointer" (214 : Nat) ({ cls := "Splitpointer", name := "mustBeClient", desc := "(I)LSplitpointer$Client;" } : Jvm.MethodName)) ∈ lw_all := lw_g (lw_at lw_m6 9 rfl) rfl
theorem q1273 : (Jvm.Cond.privateMethod ({ cls := "Splitpointer", name := "mustBeClient", desc := "(I)LSplitpointer$Client;" } : Jvm.MethodName)) ∈ lw_tbl := lw_at lw_m6 10 rfl
theorem q1274 : (Jvm.Cond.instanceMethod ({ cls := "Splitpointer", name := "mustBeClient", desc := "(I)LSplitpointer$Client;" } : Jvm.MethodName)) ∈ lw_all := lw_g (lw_at lw_m6 11 rfl) rfl
theorem q1275 : (Jvm.Cond.code ({ cls := "Splitpointer", name := "mustBeClient", desc := "(I)LSplitpointer$Client;" } : Jvm.MethodName) prog_1_method_14_code (2 : Nat) (Option.some (Jvm.ClassFile.FieldType.object "Splitpointer$Client"))) ∈ lw_all := lw_g (lw_at lw_m6 12 rfl) rfl
theorem q1276 : (Jvm.Cond.methodLink "Splitpointer" (218 : Nat) ({ cls := "Splitpointer$Client", name := "address", desc := "(I)I" } : Jvm.MethodName)) ∈ lw_all := lw_g (lw_at lw_m6 13 rfl) rfl
theorem q1280 : (Jvm.Cond.methodLink "Splitpointer" (227 : Nat) ({ cls := "Splitpointer", name := "forwarded", desc := "(II)I" } : Jvm.MethodName)) ∈ lw_all := lw_g (lw_at lw_m6 17 rfl) rfl
theorem q1281 : (Jvm.Cond.privateMethod ({ cls := "Splitpointer", name := "forwarded", desc := "(II)I" } : Jvm.MethodName)) ∈ lw_tbl := lw_at lw_m6 18 rfl
theorem q1282 : (Jvm.Cond.instanceMethod ({ cls := "Splitpointer", name := "forwarded", desc := "(II)I" } : Jvm.MethodName)) ∈ lw_all := lw_g (lw_at lw_m6 19 rfl) rfl
theorem q1283 : (Jvm.Cond.code ({ cls := "Splitpointer", name := "forwarded", desc := "(II)I" } : Jvm.MethodName) prog_1_method_30_code (6 : Nat) (Option.some Jvm.ClassFile.FieldType.int)) ∈ lw_all := lw_g (lw_at lw_m6 20 rfl) rfl
theorem q1284 : (Jvm.Cond.methodLink "Splitpointer" (231 : Nat) ({ cls := "Splitpointer$Client", name := "learn", desc := "(II)V" } : Jvm.MethodName)) ∈ lw_all := lw_g (lw_at lw_m6 21 rfl) rfl
theorem q1292 : (Jvm.Cond.instanceMethod ({ cls := "Splitpointer", name := "get", desc := "(I)I" } : Jvm.MethodName)) ∈ lw_all := lw_g (lw_at lw_m6 29 rfl) rfl
theorem q1293 : (Jvm.Cond.selects "Splitpointer" ({ cls := "Splitpointer", name := "get", desc := "(I)I" } : Jvm.MethodName) ({ cls := "Splitpointer", name := "get", desc := "(I)I" } : Jvm.MethodName)) ∈ lw_all := lw_g (lw_at lw_m6 30 rfl) rfl
theorem q1294 : (Jvm.Cond.code ({ cls := "Splitpointer", name := "get", desc := "(I)I" } : Jvm.MethodName) prog_1_method_36_code (3 : Nat) (Option.some Jvm.ClassFile.FieldType.int)) ∈ lw_all := lw_g (lw_at lw_m6 31 rfl) rfl
theorem q1299 : (Jvm.Cond.instanceMethod ({ cls := "Splitpointer", name := "ofKey", desc := "(II)I" } : Jvm.MethodName)) ∈ lw_all := lw_g (lw_at lw_m6 36 rfl) rfl
theorem q1300 : (Jvm.Cond.selects "Splitpointer" ({ cls := "Splitpointer", name := "ofKey", desc := "(II)I" } : Jvm.MethodName) ({ cls := "Splitpointer", name := "ofKey", desc := "(II)I" } : Jvm.MethodName)) ∈ lw_all := lw_g (lw_at lw_m6 37 rfl) rfl
theorem q1301 : (Jvm.Cond.code ({ cls := "Splitpointer", name := "ofKey", desc := "(II)I" } : Jvm.MethodName) prog_1_method_38_code (3 : Nat) (Option.some Jvm.ClassFile.FieldType.int)) ∈ lw_all := lw_g (lw_at lw_m6 38 rfl) rfl
theorem q1302 : (Jvm.Cond.methodLink "Splitpointer" (264 : Nat) ({ cls := "Splitpointer", name := "ofKeyNow", desc := "(II)I" } : Jvm.MethodName)) ∈ lw_all := lw_g (lw_at lw_m6 39 rfl) rfl
theorem q1303 : (Jvm.Cond.privateMethod ({ cls := "Splitpointer", name := "ofKeyNow", desc := "(II)I" } : Jvm.MethodName)) ∈ lw_tbl := lw_at lw_m6 40 rfl
theorem q1304 : (Jvm.Cond.instanceMethod ({ cls := "Splitpointer", name := "ofKeyNow", desc := "(II)I" } : Jvm.MethodName)) ∈ lw_all := lw_g (lw_at lw_m6 41 rfl) rfl
theorem q1305 : (Jvm.Cond.code ({ cls := "Splitpointer", name := "ofKeyNow", desc := "(II)I" } : Jvm.MethodName) prog_1_method_37_code (6 : Nat) (Option.some Jvm.ClassFile.FieldType.int)) ∈ lw_all := lw_g (lw_at lw_m6 42 rfl) rfl
theorem q1306 : (Jvm.Cond.methodLink "Splitpointer" (249 : Nat) ({ cls := "Splitpointer$Bucket", name := "pageOf", desc := "(I)LSplitpointer$Page;" } : Jvm.MethodName)) ∈ lw_all := lw_g (lw_at lw_m6 43 rfl) rfl
theorem q1307 : (Jvm.Cond.methodLink "Splitpointer" (253 : Nat) ({ cls := "Splitpointer$Hashing", name := "turned", desc := "(I)I" } : Jvm.MethodName)) ∈ lw_all := lw_g (lw_at lw_m6 44 rfl) rfl
theorem q1312 : (Jvm.Cond.instanceMethod ({ cls := "Splitpointer", name := "ofFile", desc := "(I)I" } : Jvm.MethodName)) ∈ lw_all := lw_g (lw_at lw_m6 49 rfl) rfl
theorem q1313 : (Jvm.Cond.selects "Splitpointer" ({ cls := "Splitpointer", name := "ofFile", desc := "(I)I" } : Jvm.MethodName) ({ cls := "Splitpointer", name := "ofFile", desc := "(I)I" } : Jvm.MethodName)) ∈ lw_all := lw_g (lw_at lw_m6 50 rfl) rfl
theorem q1314 : (Jvm.Cond.code ({ cls := "Splitpointer", name := "ofFile", desc := "(I)I" } : Jvm.MethodName) prog_1_method_41_code (2 : Nat) (Option.some Jvm.ClassFile.FieldType.int)) ∈ lw_all := lw_g (lw_at lw_m6 51 rfl) rfl
theorem q1319 : (Jvm.Cond.instanceMethod ({ cls := "Splitpointer", name := "ofBucket", desc := "(II)I" } : Jvm.MethodName)) ∈ lw_all := lw_g (lw_at lw_m6 56 rfl) rfl
theorem q1320 : (Jvm.Cond.selects "Splitpointer" ({ cls := "Splitpointer", name := "ofBucket", desc := "(II)I" } : Jvm.MethodName) ({ cls := "Splitpointer", name := "ofBucket", desc := "(II)I" } : Jvm.MethodName)) ∈ lw_all := lw_g (lw_at lw_m6 57 rfl) rfl
theorem q1321 : (Jvm.Cond.code ({ cls := "Splitpointer", name := "ofBucket", desc := "(II)I" } : Jvm.MethodName) prog_1_method_43_code (3 : Nat) (Option.some Jvm.ClassFile.FieldType.int)) ∈ lw_all := lw_g (lw_at lw_m6 58 rfl) rfl
theorem q1322 : (Jvm.Cond.methodLink "Splitpointer" (305 : Nat) ({ cls := "Splitpointer", name := "mustBeBucket", desc := "(I)LSplitpointer$Bucket;" } : Jvm.MethodName)) ∈ lw_all := lw_g (lw_at lw_m6 59 rfl) rfl
theorem q1323 : (Jvm.Cond.privateMethod ({ cls := "Splitpointer", name := "mustBeBucket", desc := "(I)LSplitpointer$Bucket;" } : Jvm.MethodName)) ∈ lw_tbl := lw_at lw_m6 60 rfl
theorem q1324 : (Jvm.Cond.instanceMethod ({ cls := "Splitpointer", name := "mustBeBucket", desc := "(I)LSplitpointer$Bucket;" } : Jvm.MethodName)) ∈ lw_all := lw_g (lw_at lw_m6 61 rfl) rfl
theorem q1325 : (Jvm.Cond.code ({ cls := "Splitpointer", name := "mustBeBucket", desc := "(I)LSplitpointer$Bucket;" } : Jvm.MethodName) prog_1_method_12_code (2 : Nat) (Option.some (Jvm.ClassFile.FieldType.object "Splitpointer$Bucket"))) ∈ lw_all := lw_g (lw_at lw_m6 62 rfl) rfl
theorem q1330 : (Jvm.Cond.instanceMethod ({ cls := "Splitpointer", name := "chain", desc := "(I)Ljava/lang/String;" } : Jvm.MethodName)) ∈ lw_all := lw_g (lw_at lw_m6 67 rfl) rfl
theorem q1331 : (Jvm.Cond.selects "Splitpointer" ({ cls := "Splitpointer", name := "chain", desc := "(I)Ljava/lang/String;" } : Jvm.MethodName) ({ cls := "Splitpointer", name := "chain", desc := "(I)Ljava/lang/String;" } : Jvm.MethodName)) ∈ lw_all := lw_g (lw_at lw_m6 68 rfl) rfl
theorem q1332 : (Jvm.Cond.code ({ cls := "Splitpointer", name := "chain", desc := "(I)Ljava/lang/String;" } : Jvm.MethodName) prog_1_method_45_code (2 : Nat) (Option.some (Jvm.ClassFile.FieldType.object "java/lang/String"))) ∈ lw_all := lw_g (lw_at lw_m6 69 rfl) rfl
theorem q1337 : (Jvm.Cond.instanceMethod ({ cls := "Splitpointer", name := "ofPage", desc := "(II)I" } : Jvm.MethodName)) ∈ lw_all := lw_g (lw_at lw_m6 74 rfl) rfl
theorem q1338 : (Jvm.Cond.selects "Splitpointer" ({ cls := "Splitpointer", name := "ofPage", desc := "(II)I" } : Jvm.MethodName) ({ cls := "Splitpointer", name := "ofPage", desc := "(II)I" } : Jvm.MethodName)) ∈ lw_all := lw_g (lw_at lw_m6 75 rfl) rfl
theorem q1339 : (Jvm.Cond.code ({ cls := "Splitpointer", name := "ofPage", desc := "(II)I" } : Jvm.MethodName) prog_1_method_47_code (5 : Nat) (Option.some Jvm.ClassFile.FieldType.int)) ∈ lw_all := lw_g (lw_at lw_m6 76 rfl) rfl
theorem q1340 : (Jvm.Cond.methodLink "Splitpointer" (337 : Nat) ({ cls := "Splitpointer", name := "placeOf", desc := "(I)[I" } : Jvm.MethodName)) ∈ lw_all := lw_g (lw_at lw_m6 77 rfl) rfl
theorem q1341 : (Jvm.Cond.privateMethod ({ cls := "Splitpointer", name := "placeOf", desc := "(I)[I" } : Jvm.MethodName)) ∈ lw_tbl := lw_at lw_m6 78 rfl
theorem q1342 : (Jvm.Cond.instanceMethod ({ cls := "Splitpointer", name := "placeOf", desc := "(I)[I" } : Jvm.MethodName)) ∈ lw_all := lw_g (lw_at lw_m6 79 rfl) rfl
theorem q1343 : (Jvm.Cond.code ({ cls := "Splitpointer", name := "placeOf", desc := "(I)[I" } : Jvm.MethodName) prog_1_method_46_code (5 : Nat) (Option.some (Jvm.ClassFile.FieldType.array Jvm.ClassFile.FieldType.int))) ∈ lw_all := lw_g (lw_at lw_m6 80 rfl) rfl
theorem q1348 : (Jvm.Cond.instanceMethod ({ cls := "Splitpointer", name := "mark", desc := "(I)I" } : Jvm.MethodName)) ∈ lw_all := lw_g (lw_at lw_m6 85 rfl) rfl
theorem q1349 : (Jvm.Cond.selects "Splitpointer" ({ cls := "Splitpointer", name := "mark", desc := "(I)I" } : Jvm.MethodName) ({ cls := "Splitpointer", name := "mark", desc := "(I)I" } : Jvm.MethodName)) ∈ lw_all := lw_g (lw_at lw_m6 86 rfl) rfl
theorem q1350 : (Jvm.Cond.code ({ cls := "Splitpointer", name := "mark", desc := "(I)I" } : Jvm.MethodName) prog_1_method_49_code (2 : Nat) (Option.some Jvm.ClassFile.FieldType.int)) ∈ lw_all := lw_g (lw_at lw_m6 87 rfl) rfl
theorem q1355 : (Jvm.Cond.instanceMethod ({ cls := "Splitpointer", name := "ofClient", desc := "(II)I" } : Jvm.MethodName)) ∈ lw_all := lw_g (lw_at lw_m6 92 rfl) rfl
theorem q1356 : (Jvm.Cond.selects "Splitpointer" ({ cls := "Splitpointer", name := "ofClient", desc := "(II)I" } : Jvm.MethodName) ({ cls := "Splitpointer", name := "ofClient", desc := "(II)I" } : Jvm.MethodName)) ∈ lw_all := lw_g (lw_at lw_m6 93 rfl) rfl
theorem q1357 : (Jvm.Cond.code ({ cls := "Splitpointer", name := "ofClient", desc := "(II)I" } : Jvm.MethodName) prog_1_method_51_code (4 : Nat) (Option.some Jvm.ClassFile.FieldType.int)) ∈ lw_all := lw_g (lw_at lw_m6 94 rfl) rfl
theorem q1362 : (Jvm.Cond.instanceMethod ({ cls := "Splitpointer", name := "seek", desc := "(ZII)I" } : Jvm.MethodName)) ∈ lw_all := lw_g (lw_at lw_m6 99 rfl) rfl
theorem q1363 : (Jvm.Cond.selects "Splitpointer" ({ cls := "Splitpointer", name := "seek", desc := "(ZII)I" } : Jvm.MethodName) ({ cls := "Splitpointer", name := "seek", desc := "(ZII)I" } : Jvm.MethodName)) ∈ lw_all := lw_g (lw_at lw_m6 100 rfl) rfl
theorem q1364 : (Jvm.Cond.code ({ cls := "Splitpointer", name := "seek", desc := "(ZII)I" } : Jvm.MethodName) prog_1_method_53_code (4 : Nat) (Option.some Jvm.ClassFile.FieldType.int)) ∈ lw_all := lw_g (lw_at lw_m6 101 rfl) rfl
theorem q1365 : (Jvm.Cond.methodLink "Splitpointer" (352 : Nat) ({ cls := "Splitpointer", name := "mustBeField", desc := "(I)V" } : Jvm.MethodName)) ∈ lw_all := lw_g (lw_at lw_m6 102 rfl) rfl
theorem q1366 : (Jvm.Cond.static ({ cls := "Splitpointer", name := "mustBeField", desc := "(I)V" } : Jvm.MethodName)) ∈ lw_all := lw_g (lw_at lw_m6 103 rfl) rfl
theorem q1367 : (Jvm.Cond.code ({ cls := "Splitpointer", name := "mustBeField", desc := "(I)V" } : Jvm.MethodName) prog_1_method_52_code (1 : Nat) (Option.none : Option Jvm.ClassFile.FieldType)) ∈ lw_all := lw_g (lw_at lw_m6 104 rfl) rfl
theorem q1368 : (Jvm.Cond.methodLink "Splitpointer" (355 : Nat) ({ cls := "Splitpointer", name := "seekNow", desc := "(ZII)I" } : Jvm.MethodName)) ∈ lw_all := lw_g (lw_at lw_m6 105 rfl) rfl
theorem q1369 : (Jvm.Cond.privateMethod ({ cls := "Splitpointer", name := "seekNow", desc := "(ZII)I" } : Jvm.MethodName)) ∈ lw_tbl := lw_at lw_m6 106 rfl
theorem q1370 : (Jvm.Cond.instanceMethod ({ cls := "Splitpointer", name := "seekNow", desc := "(ZII)I" } : Jvm.MethodName)) ∈ lw_all := lw_g (lw_at lw_m6 107 rfl) rfl
theorem q1371 : (Jvm.Cond.code ({ cls := "Splitpointer", name := "seekNow", desc := "(ZII)I" } : Jvm.MethodName) prog_1_method_21_code (6 : Nat) (Option.some Jvm.ClassFile.FieldType.int)) ∈ lw_all := lw_g (lw_at lw_m6 108 rfl) rfl
theorem q1372 : (Jvm.Cond.methodLink "Splitpointer" (131 : Nat) ({ cls := "Splitpointer$Entry", name := "isOf", desc := "(ZI)Z" } : Jvm.MethodName)) ∈ lw_all := lw_g (lw_at lw_m6 109 rfl) rfl
theorem q1380 : (Jvm.Cond.instanceMethod ({ cls := "Splitpointer", name := "visits", desc := "(ZI)I" } : Jvm.MethodName)) ∈ lw_all := lw_g (lw_at lw_m6 117 rfl) rfl
theorem q1381 : (Jvm.Cond.selects "Splitpointer" ({ cls := "Splitpointer", name := "visits", desc := "(ZI)I" } : Jvm.MethodName) ({ cls := "Splitpointer", name := "visits", desc := "(ZI)I" } : Jvm.MethodName)) ∈ lw_all := lw_g (lw_at lw_m6 118 rfl) rfl
theorem q1382 : (Jvm.Cond.code ({ cls := "Splitpointer", name := "visits", desc := "(ZI)I" } : Jvm.MethodName) prog_1_method_54_code (3 : Nat) (Option.some Jvm.ClassFile.FieldType.int)) ∈ lw_all := lw_g (lw_at lw_m6 119 rfl) rfl
theorem q1387 : (Jvm.Cond.instanceMethod ({ cls := "Splitpointer", name := "would", desc := "(III)I" } : Jvm.MethodName)) ∈ lw_all := lw_g (lw_at lw_m6 124 rfl) rfl
theorem q1388 : (Jvm.Cond.selects "Splitpointer" ({ cls := "Splitpointer", name := "would", desc := "(III)I" } : Jvm.MethodName) ({ cls := "Splitpointer", name := "would", desc := "(III)I" } : Jvm.MethodName)) ∈ lw_all := lw_g (lw_at lw_m6 125 rfl) rfl
theorem q1389 : (Jvm.Cond.code ({ cls := "Splitpointer", name := "would", desc := "(III)I" } : Jvm.MethodName) prog_1_method_55_code (5 : Nat) (Option.some Jvm.ClassFile.FieldType.int)) ∈ lw_all := lw_g (lw_at lw_m6 126 rfl) rfl
theorem q1390 : (Jvm.Cond.methodLink "Splitpointer" (363 : Nat) ({ cls := "Splitpointer$Store", name := "rehash", desc := "(II)V" } : Jvm.MethodName)) ∈ lw_all := lw_g (lw_at lw_m6 127 rfl) rfl
theorem q1395 : (Jvm.Cond.instanceMethod ({ cls := "Splitpointer", name := "crashed", desc := "(I)I" } : Jvm.MethodName)) ∈ lw_all := lw_g (lw_at lw_m6 132 rfl) rfl
theorem q1396 : (Jvm.Cond.selects "Splitpointer" ({ cls := "Splitpointer", name := "crashed", desc := "(I)I" } : Jvm.MethodName) ({ cls := "Splitpointer", name := "crashed", desc := "(I)I" } : Jvm.MethodName)) ∈ lw_all := lw_g (lw_at lw_m6 133 rfl) rfl
theorem q1397 : (Jvm.Cond.code ({ cls := "Splitpointer", name := "crashed", desc := "(I)I" } : Jvm.MethodName) prog_1_method_57_code (2 : Nat) (Option.some Jvm.ClassFile.FieldType.int)) ∈ lw_all := lw_g (lw_at lw_m6 134 rfl) rfl
theorem q1526 : (Jvm.Cond.selects "Splitpointer" ({ cls := "java/lang/Object", name := "equals", desc := "(Ljava/lang/Object;)Z" } : Jvm.MethodName) ({ cls := "java/lang/Object", name := "equals", desc := "(Ljava/lang/Object;)Z" } : Jvm.MethodName)) ∈ lw_all := lw_g (lw_at lw_m7 23 rfl) rfl
theorem q2063 : (Jvm.Cond.castable "Splitpointer" "java/lang/Object") ∈ lw_tbl := lw_at lw_m9 80 rfl
theorem in_X1 : ∀ w ∈ wsX10, w ∈ lw_all := lw_in wsX10 [366, 368, 370, 372, 374, 376, 378, 380, 382, 384, 386, 388, 390] (by decide +kernel) (by decide +kernel)
