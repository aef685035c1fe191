/-! SplitpointerModel -/
set_option maxRecDepth 100000
def RX7 : String := "SplitpointerModel"
def TX7 : u_T := fun k => match k with
  | 0 => ("SplitpointerModel", "thrown", "I", false)
  | 1 => ("SplitpointerModel", "now", "LSplitpointerModel$Disk;", false)
  | 2 => ("SplitpointerModel", "safe", "LSplitpointerModel$Disk;", false)
  | 3 => ("SplitpointerModel", "group", "I", false)
  | 4 => ("SplitpointerModel", "logged", "I", false)
  | 5 => ("SplitpointerModel", "waiting", "Ljava/util/ArrayList;", true)
  | 6 => ("SplitpointerModel", "marks", "[I", true)
  | 7 => ("SplitpointerModel", "images", "[I", true)
  | 8 => ("SplitpointerModel", "reads", "I", false)
  | 9 => ("SplitpointerModel", "falses", "I", false)
  | 10 => ("SplitpointerModel", "forwards", "I", false)
  | 11 => ("SplitpointerModel", "crashes", "I", false)
  | _ => ("SplitpointerModel", "refused", "I", false)
def tyX7 : Nat → FieldType := fun k => match k with
  | 0 => .int
  | 1 => .object "SplitpointerModel$Disk"
  | 2 => .object "SplitpointerModel$Disk"
  | 3 => .int
  | 4 => .int
  | 5 => .object "java/util/ArrayList"
  | 6 => .array .int
  | 7 => .array .int
  | 8 => .int
  | 9 => .int
  | 10 => .int
  | 11 => .int
  | _ => .int
abbrev wsX70 : List Cond := u_ws RX7 TX7 13
set_option maxRecDepth 100000 in
theorem nmX7 : ∀ a, a < 13 → ∀ b, b < 13 → a ≠ b → (TX7 a).2.1 ≠ (TX7 b).2.1 := by decide +kernel
set_option maxRecDepth 100000 in
theorem tyX7_ok : ∀ k, k < 13 → parseFieldDescriptor (TX7 k).2.2.1 = some (tyX7 k) := by decide +kernel
abbrev cX7_init : ByteArray := prog_15_method_1_code
def yX7_init : MethodName := ⟨RX7, "<init>", "()V"⟩
def dkwX7_init_3 : List UInt8 := [79, 89, 4, 5, 79, 89, 5, 5, 79, 181, 0, 36, 177]
abbrev dktX7_init_3 : List UInt8 := dkwX7_init_3 ++ []
def dkwX7_init_2 : List UInt8 := [188, 10, 89, 3, 2, 79, 89, 4, 2, 79, 89, 5, 2, 79, 181, 0, 32, 42, 6, 188, 10, 89, 3, 5]
abbrev dktX7_init_2 : List UInt8 := dkwX7_init_2 ++ dktX7_init_3
def dkwX7_init_1 : List UInt8 := [183, 0, 9, 181, 0, 18, 42, 4, 181, 0, 21, 42, 187, 0, 25, 89, 183, 0, 27, 181, 0, 28, 42, 6]
abbrev dktX7_init_1 : List UInt8 := dkwX7_init_1 ++ dktX7_init_2
def dkwX7_init_0 : List UInt8 := [42, 183, 0, 1, 42, 187, 0, 7, 89, 5, 183, 0, 9, 181, 0, 12, 42, 187, 0, 7, 89, 5]
abbrev dktX7_init_0 : List UInt8 := dkwX7_init_0 ++ dktX7_init_1
theorem dksX7_init_0 : cX7_init.data.toList.drop 0 = dktX7_init_0 := by decide +kernel
theorem dksX7_init_1 : cX7_init.data.toList.drop 22 = dktX7_init_1 := dk_seg dksX7_init_0 22 rfl rfl
theorem dksX7_init_2 : cX7_init.data.toList.drop 46 = dktX7_init_2 := dk_seg dksX7_init_1 24 rfl rfl
theorem dksX7_init_3 : cX7_init.data.toList.drop 70 = dktX7_init_3 := dk_seg dksX7_init_2 24 rfl rfl
theorem dX7_init_0 : decode cX7_init 0 = .ok (.aload_n 0, 1) := dk_42 (dk_at dksX7_init_0 0 rfl rfl)
theorem dX7_init_1 : decode cX7_init 1 = .ok (.invokespecial 1, 3) := dk_183 0 1 (dk_at dksX7_init_0 1 rfl rfl)
theorem dX7_init_4 : decode cX7_init 4 = .ok (.aload_n 0, 1) := dk_42 (dk_at dksX7_init_0 4 rfl rfl)
theorem dX7_init_5 : decode cX7_init 5 = .ok (.new 7, 3) := dk_187 0 7 (dk_at dksX7_init_0 5 rfl rfl)
theorem dX7_init_8 : decode cX7_init 8 = .ok (.dup, 1) := dk_89 (dk_at dksX7_init_0 8 rfl rfl)
theorem dX7_init_9 : decode cX7_init 9 = .ok (.iconst 2, 1) := dk_5 (dk_at dksX7_init_0 9 rfl rfl)
theorem dX7_init_10 : decode cX7_init 10 = .ok (.invokespecial 9, 3) := dk_183 0 9 (dk_at dksX7_init_0 10 rfl rfl)
theorem dX7_init_13 : decode cX7_init 13 = .ok (.putfield 12, 3) := dk_181 0 12 (dk_at dksX7_init_0 13 rfl rfl)
theorem dX7_init_16 : decode cX7_init 16 = .ok (.aload_n 0, 1) := dk_42 (dk_at dksX7_init_0 16 rfl rfl)
theorem dX7_init_17 : decode cX7_init 17 = .ok (.new 7, 3) := dk_187 0 7 (dk_at dksX7_init_0 17 rfl rfl)
theorem dX7_init_20 : decode cX7_init 20 = .ok (.dup, 1) := dk_89 (dk_at dksX7_init_0 20 rfl rfl)
theorem dX7_init_21 : decode cX7_init 21 = .ok (.iconst 2, 1) := dk_5 (dk_at dksX7_init_0 21 rfl rfl)
theorem dX7_init_22 : decode cX7_init 22 = .ok (.invokespecial 9, 3) := dk_183 0 9 (dk_at dksX7_init_1 0 rfl rfl)
theorem dX7_init_25 : decode cX7_init 25 = .ok (.putfield 18, 3) := dk_181 0 18 (dk_at dksX7_init_1 3 rfl rfl)
theorem dX7_init_28 : decode cX7_init 28 = .ok (.aload_n 0, 1) := dk_42 (dk_at dksX7_init_1 6 rfl rfl)
theorem dX7_init_29 : decode cX7_init 29 = .ok (.iconst 1, 1) := dk_4 (dk_at dksX7_init_1 7 rfl rfl)
theorem dX7_init_30 : decode cX7_init 30 = .ok (.putfield 21, 3) := dk_181 0 21 (dk_at dksX7_init_1 8 rfl rfl)
theorem dX7_init_33 : decode cX7_init 33 = .ok (.aload_n 0, 1) := dk_42 (dk_at dksX7_init_1 11 rfl rfl)
theorem dX7_init_34 : decode cX7_init 34 = .ok (.new 25, 3) := dk_187 0 25 (dk_at dksX7_init_1 12 rfl rfl)
theorem dX7_init_37 : decode cX7_init 37 = .ok (.dup, 1) := dk_89 (dk_at dksX7_init_1 15 rfl rfl)
theorem dX7_init_38 : decode cX7_init 38 = .ok (.invokespecial 27, 3) := dk_183 0 27 (dk_at dksX7_init_1 16 rfl rfl)
theorem dX7_init_41 : decode cX7_init 41 = .ok (.putfield 28, 3) := dk_181 0 28 (dk_at dksX7_init_1 19 rfl rfl)
theorem dX7_init_44 : decode cX7_init 44 = .ok (.aload_n 0, 1) := dk_42 (dk_at dksX7_init_1 22 rfl rfl)
theorem dX7_init_45 : decode cX7_init 45 = .ok (.iconst 3, 1) := dk_6 (dk_at dksX7_init_1 23 rfl rfl)
theorem dX7_init_46 : decode cX7_init 46 = .ok (.newarray .int, 2) := dk_188_10 (dk_at dksX7_init_2 0 rfl rfl)
theorem dX7_init_48 : decode cX7_init 48 = .ok (.dup, 1) := dk_89 (dk_at dksX7_init_2 2 rfl rfl)
theorem dX7_init_49 : decode cX7_init 49 = .ok (.iconst 0, 1) := dk_3 (dk_at dksX7_init_2 3 rfl rfl)
theorem dX7_init_50 : decode cX7_init 50 = .ok (.iconst (-1), 1) := dk_2 (dk_at dksX7_init_2 4 rfl rfl)
theorem dX7_init_51 : decode cX7_init 51 = .ok (.iastore, 1) := dk_79 (dk_at dksX7_init_2 5 rfl rfl)
theorem dX7_init_52 : decode cX7_init 52 = .ok (.dup, 1) := dk_89 (dk_at dksX7_init_2 6 rfl rfl)
theorem dX7_init_53 : decode cX7_init 53 = .ok (.iconst 1, 1) := dk_4 (dk_at dksX7_init_2 7 rfl rfl)
theorem dX7_init_54 : decode cX7_init 54 = .ok (.iconst (-1), 1) := dk_2 (dk_at dksX7_init_2 8 rfl rfl)
theorem dX7_init_55 : decode cX7_init 55 = .ok (.iastore, 1) := dk_79 (dk_at dksX7_init_2 9 rfl rfl)
theorem dX7_init_56 : decode cX7_init 56 = .ok (.dup, 1) := dk_89 (dk_at dksX7_init_2 10 rfl rfl)
theorem dX7_init_57 : decode cX7_init 57 = .ok (.iconst 2, 1) := dk_5 (dk_at dksX7_init_2 11 rfl rfl)
theorem dX7_init_58 : decode cX7_init 58 = .ok (.iconst (-1), 1) := dk_2 (dk_at dksX7_init_2 12 rfl rfl)
theorem dX7_init_59 : decode cX7_init 59 = .ok (.iastore, 1) := dk_79 (dk_at dksX7_init_2 13 rfl rfl)
theorem dX7_init_60 : decode cX7_init 60 = .ok (.putfield 32, 3) := dk_181 0 32 (dk_at dksX7_init_2 14 rfl rfl)
theorem dX7_init_63 : decode cX7_init 63 = .ok (.aload_n 0, 1) := dk_42 (dk_at dksX7_init_2 17 rfl rfl)
theorem dX7_init_64 : decode cX7_init 64 = .ok (.iconst 3, 1) := dk_6 (dk_at dksX7_init_2 18 rfl rfl)
theorem dX7_init_65 : decode cX7_init 65 = .ok (.newarray .int, 2) := dk_188_10 (dk_at dksX7_init_2 19 rfl rfl)
theorem dX7_init_67 : decode cX7_init 67 = .ok (.dup, 1) := dk_89 (dk_at dksX7_init_2 21 rfl rfl)
theorem dX7_init_68 : decode cX7_init 68 = .ok (.iconst 0, 1) := dk_3 (dk_at dksX7_init_2 22 rfl rfl)
theorem dX7_init_69 : decode cX7_init 69 = .ok (.iconst 2, 1) := dk_5 (dk_at dksX7_init_2 23 rfl rfl)
theorem dX7_init_70 : decode cX7_init 70 = .ok (.iastore, 1) := dk_79 (dk_at dksX7_init_3 0 rfl rfl)
theorem dX7_init_71 : decode cX7_init 71 = .ok (.dup, 1) := dk_89 (dk_at dksX7_init_3 1 rfl rfl)
theorem dX7_init_72 : decode cX7_init 72 = .ok (.iconst 1, 1) := dk_4 (dk_at dksX7_init_3 2 rfl rfl)
theorem dX7_init_73 : decode cX7_init 73 = .ok (.iconst 2, 1) := dk_5 (dk_at dksX7_init_3 3 rfl rfl)
theorem dX7_init_74 : decode cX7_init 74 = .ok (.iastore, 1) := dk_79 (dk_at dksX7_init_3 4 rfl rfl)
theorem dX7_init_75 : decode cX7_init 75 = .ok (.dup, 1) := dk_89 (dk_at dksX7_init_3 5 rfl rfl)
theorem dX7_init_76 : decode cX7_init 76 = .ok (.iconst 2, 1) := dk_5 (dk_at dksX7_init_3 6 rfl rfl)
theorem dX7_init_77 : decode cX7_init 77 = .ok (.iconst 2, 1) := dk_5 (dk_at dksX7_init_3 7 rfl rfl)
theorem dX7_init_78 : decode cX7_init 78 = .ok (.iastore, 1) := dk_79 (dk_at dksX7_init_3 8 rfl rfl)
theorem dX7_init_79 : decode cX7_init 79 = .ok (.putfield 36, 3) := dk_181 0 36 (dk_at dksX7_init_3 9 rfl rfl)
theorem dX7_init_82 : decode cX7_init 82 = .ok (.return_, 1) := dk_177 (dk_at dksX7_init_3 12 rfl rfl)
abbrev cX7_thrown : ByteArray := prog_15_method_11_code
def yX7_thrown : MethodName := ⟨RX7, "thrown", "()I"⟩
theorem dX7_thrown_0 : decode cX7_thrown 0 = .ok (.aload_n 0, 1) := by decide +kernel
theorem dX7_thrown_1 : decode cX7_thrown 1 = .ok (.getfield 48, 3) := by decide +kernel
theorem dX7_thrown_4 : decode cX7_thrown 4 = .ok (.ireturn, 1) := by decide +kernel
abbrev cX7_found : ByteArray := prog_15_method_20_code
def yX7_found : MethodName := ⟨RX7, "found", "(II)I"⟩
def dkwX7_found_3 : List UInt8 := [180, 0, 36, 5, 184, 0, 111, 29, 172]
abbrev dktX7_found_3 : List UInt8 := dkwX7_found_3 ++ []
def dkwX7_found_2 : List UInt8 := [183, 0, 9, 181, 0, 12, 42, 28, 181, 0, 21, 42, 182, 0, 95, 42, 180, 0, 32, 2, 184, 0, 111, 42]
abbrev dktX7_found_2 : List UInt8 := dkwX7_found_2 ++ dktX7_found_3
def dkwX7_found_1 : List UInt8 := [3, 4, 182, 0, 105, 153, 0, 5, 3, 172, 42, 180, 0, 12, 182, 0, 108, 62, 42, 187, 0, 7, 89, 27]
abbrev dktX7_found_1 : List UInt8 := dkwX7_found_1 ++ dktX7_found_2
def dkwX7_found_0 : List UInt8 := [42, 27, 5, 7, 184, 0, 55, 153, 0, 13, 28, 4, 16, 8, 184, 0, 55, 154, 0, 7, 4, 167, 0, 4]
abbrev dktX7_found_0 : List UInt8 := dkwX7_found_0 ++ dktX7_found_1
theorem dksX7_found_0 : cX7_found.data.toList.drop 0 = dktX7_found_0 := by decide +kernel
theorem dksX7_found_1 : cX7_found.data.toList.drop 24 = dktX7_found_1 := dk_seg dksX7_found_0 24 rfl rfl
theorem dksX7_found_2 : cX7_found.data.toList.drop 48 = dktX7_found_2 := dk_seg dksX7_found_1 24 rfl rfl
theorem dksX7_found_3 : cX7_found.data.toList.drop 72 = dktX7_found_3 := dk_seg dksX7_found_2 24 rfl rfl
theorem dX7_found_0 : decode cX7_found 0 = .ok (.aload_n 0, 1) := dk_42 (dk_at dksX7_found_0 0 rfl rfl)
theorem dX7_found_1 : decode cX7_found 1 = .ok (.iload_n 1, 1) := dk_27 (dk_at dksX7_found_0 1 rfl rfl)
theorem dX7_found_2 : decode cX7_found 2 = .ok (.iconst 2, 1) := dk_5 (dk_at dksX7_found_0 2 rfl rfl)
theorem dX7_found_3 : decode cX7_found 3 = .ok (.iconst 4, 1) := dk_7 (dk_at dksX7_found_0 3 rfl rfl)
theorem dX7_found_4 : decode cX7_found 4 = .ok (.invokestatic 55, 3) := dk_184 0 55 (dk_at dksX7_found_0 4 rfl rfl)
theorem dX7_found_7 : decode cX7_found 7 = .ok (.ifCond .eq 13, 3) := dk_153 0 13 (dk_at dksX7_found_0 7 rfl rfl)
theorem dX7_found_10 : decode cX7_found 10 = .ok (.iload_n 2, 1) := dk_28 (dk_at dksX7_found_0 10 rfl rfl)
theorem dX7_found_11 : decode cX7_found 11 = .ok (.iconst 1, 1) := dk_4 (dk_at dksX7_found_0 11 rfl rfl)
theorem dX7_found_12 : decode cX7_found 12 = .ok (.bipush 8, 2) := dk_16 8 (dk_at dksX7_found_0 12 rfl rfl)
theorem dX7_found_14 : decode cX7_found 14 = .ok (.invokestatic 55, 3) := dk_184 0 55 (dk_at dksX7_found_0 14 rfl rfl)
theorem dX7_found_17 : decode cX7_found 17 = .ok (.ifCond .ne 7, 3) := dk_154 0 7 (dk_at dksX7_found_0 17 rfl rfl)
theorem dX7_found_20 : decode cX7_found 20 = .ok (.iconst 1, 1) := dk_4 (dk_at dksX7_found_0 20 rfl rfl)
theorem dX7_found_21 : decode cX7_found 21 = .ok (.goto 4, 3) := dk_167 0 4 (dk_at dksX7_found_0 21 rfl rfl)
theorem dX7_found_24 : decode cX7_found 24 = .ok (.iconst 0, 1) := dk_3 (dk_at dksX7_found_1 0 rfl rfl)
theorem dX7_found_25 : decode cX7_found 25 = .ok (.iconst 1, 1) := dk_4 (dk_at dksX7_found_1 1 rfl rfl)
theorem dX7_found_26 : decode cX7_found 26 = .ok (.invokevirtual 105, 3) := dk_182 0 105 (dk_at dksX7_found_1 2 rfl rfl)
theorem dX7_found_29 : decode cX7_found 29 = .ok (.ifCond .eq 5, 3) := dk_153 0 5 (dk_at dksX7_found_1 5 rfl rfl)
theorem dX7_found_32 : decode cX7_found 32 = .ok (.iconst 0, 1) := dk_3 (dk_at dksX7_found_1 8 rfl rfl)
theorem dX7_found_33 : decode cX7_found 33 = .ok (.ireturn, 1) := dk_172 (dk_at dksX7_found_1 9 rfl rfl)
theorem dX7_found_34 : decode cX7_found 34 = .ok (.aload_n 0, 1) := dk_42 (dk_at dksX7_found_1 10 rfl rfl)
theorem dX7_found_35 : decode cX7_found 35 = .ok (.getfield 12, 3) := dk_180 0 12 (dk_at dksX7_found_1 11 rfl rfl)
theorem dX7_found_38 : decode cX7_found 38 = .ok (.invokevirtual 108, 3) := dk_182 0 108 (dk_at dksX7_found_1 14 rfl rfl)
theorem dX7_found_41 : decode cX7_found 41 = .ok (.istore_n 3, 1) := dk_62 (dk_at dksX7_found_1 17 rfl rfl)
theorem dX7_found_42 : decode cX7_found 42 = .ok (.aload_n 0, 1) := dk_42 (dk_at dksX7_found_1 18 rfl rfl)
theorem dX7_found_43 : decode cX7_found 43 = .ok (.new 7, 3) := dk_187 0 7 (dk_at dksX7_found_1 19 rfl rfl)
theorem dX7_found_46 : decode cX7_found 46 = .ok (.dup, 1) := dk_89 (dk_at dksX7_found_1 22 rfl rfl)
theorem dX7_found_47 : decode cX7_found 47 = .ok (.iload_n 1, 1) := dk_27 (dk_at dksX7_found_1 23 rfl rfl)
theorem dX7_found_48 : decode cX7_found 48 = .ok (.invokespecial 9, 3) := dk_183 0 9 (dk_at dksX7_found_2 0 rfl rfl)
theorem dX7_found_51 : decode cX7_found 51 = .ok (.putfield 12, 3) := dk_181 0 12 (dk_at dksX7_found_2 3 rfl rfl)
theorem dX7_found_54 : decode cX7_found 54 = .ok (.aload_n 0, 1) := dk_42 (dk_at dksX7_found_2 6 rfl rfl)
theorem dX7_found_55 : decode cX7_found 55 = .ok (.iload_n 2, 1) := dk_28 (dk_at dksX7_found_2 7 rfl rfl)
theorem dX7_found_56 : decode cX7_found 56 = .ok (.putfield 21, 3) := dk_181 0 21 (dk_at dksX7_found_2 8 rfl rfl)
theorem dX7_found_59 : decode cX7_found 59 = .ok (.aload_n 0, 1) := dk_42 (dk_at dksX7_found_2 11 rfl rfl)
theorem dX7_found_60 : decode cX7_found 60 = .ok (.invokevirtual 95, 3) := dk_182 0 95 (dk_at dksX7_found_2 12 rfl rfl)
theorem dX7_found_63 : decode cX7_found 63 = .ok (.aload_n 0, 1) := dk_42 (dk_at dksX7_found_2 15 rfl rfl)
theorem dX7_found_64 : decode cX7_found 64 = .ok (.getfield 32, 3) := dk_180 0 32 (dk_at dksX7_found_2 16 rfl rfl)
theorem dX7_found_67 : decode cX7_found 67 = .ok (.iconst (-1), 1) := dk_2 (dk_at dksX7_found_2 19 rfl rfl)
theorem dX7_found_68 : decode cX7_found 68 = .ok (.invokestatic 111, 3) := dk_184 0 111 (dk_at dksX7_found_2 20 rfl rfl)
theorem dX7_found_71 : decode cX7_found 71 = .ok (.aload_n 0, 1) := dk_42 (dk_at dksX7_found_2 23 rfl rfl)
theorem dX7_found_72 : decode cX7_found 72 = .ok (.getfield 36, 3) := dk_180 0 36 (dk_at dksX7_found_3 0 rfl rfl)
theorem dX7_found_75 : decode cX7_found 75 = .ok (.iconst 2, 1) := dk_5 (dk_at dksX7_found_3 3 rfl rfl)
theorem dX7_found_76 : decode cX7_found 76 = .ok (.invokestatic 111, 3) := dk_184 0 111 (dk_at dksX7_found_3 4 rfl rfl)
theorem dX7_found_79 : decode cX7_found 79 = .ok (.iload_n 3, 1) := dk_29 (dk_at dksX7_found_3 7 rfl rfl)
theorem dX7_found_80 : decode cX7_found 80 = .ok (.ireturn, 1) := dk_172 (dk_at dksX7_found_3 8 rfl rfl)
abbrev cX7_isIn : ByteArray := prog_15_method_2_code
def yX7_isIn : MethodName := ⟨RX7, "isIn", "(III)Z"⟩
def dkwX7_isIn_0 : List UInt8 := [26, 27, 161, 0, 12, 26, 28, 163, 0, 7, 4, 167, 0, 4, 3, 172]
abbrev dktX7_isIn_0 : List UInt8 := dkwX7_isIn_0 ++ []
theorem dksX7_isIn_0 : cX7_isIn.data.toList.drop 0 = dktX7_isIn_0 := by decide +kernel
theorem dX7_isIn_0 : decode cX7_isIn 0 = .ok (.iload_n 0, 1) := dk_26 (dk_at dksX7_isIn_0 0 rfl rfl)
theorem dX7_isIn_1 : decode cX7_isIn 1 = .ok (.iload_n 1, 1) := dk_27 (dk_at dksX7_isIn_0 1 rfl rfl)
theorem dX7_isIn_2 : decode cX7_isIn 2 = .ok (.if_icmp .lt 12, 3) := dk_161 0 12 (dk_at dksX7_isIn_0 2 rfl rfl)
theorem dX7_isIn_5 : decode cX7_isIn 5 = .ok (.iload_n 0, 1) := dk_26 (dk_at dksX7_isIn_0 5 rfl rfl)
theorem dX7_isIn_6 : decode cX7_isIn 6 = .ok (.iload_n 2, 1) := dk_28 (dk_at dksX7_isIn_0 6 rfl rfl)
theorem dX7_isIn_7 : decode cX7_isIn 7 = .ok (.if_icmp .gt 7, 3) := dk_163 0 7 (dk_at dksX7_isIn_0 7 rfl rfl)
theorem dX7_isIn_10 : decode cX7_isIn 10 = .ok (.iconst 1, 1) := dk_4 (dk_at dksX7_isIn_0 10 rfl rfl)
theorem dX7_isIn_11 : decode cX7_isIn 11 = .ok (.goto 4, 3) := dk_167 0 4 (dk_at dksX7_isIn_0 11 rfl rfl)
theorem dX7_isIn_14 : decode cX7_isIn 14 = .ok (.iconst 0, 1) := dk_3 (dk_at dksX7_isIn_0 14 rfl rfl)
theorem dX7_isIn_15 : decode cX7_isIn 15 = .ok (.ireturn, 1) := dk_172 (dk_at dksX7_isIn_0 15 rfl rfl)
abbrev cX7_start : ByteArray := prog_15_method_13_code
def yX7_start : MethodName := ⟨RX7, "start", "(ZI)Z"⟩
def dkwX7_start_0 : List UInt8 := [42, 3, 181, 0, 48, 42, 27, 28, 182, 0, 51, 172]
abbrev dktX7_start_0 : List UInt8 := dkwX7_start_0 ++ []
theorem dksX7_start_0 : cX7_start.data.toList.drop 0 = dktX7_start_0 := by decide +kernel
theorem dX7_start_0 : decode cX7_start 0 = .ok (.aload_n 0, 1) := dk_42 (dk_at dksX7_start_0 0 rfl rfl)
theorem dX7_start_1 : decode cX7_start 1 = .ok (.iconst 0, 1) := dk_3 (dk_at dksX7_start_0 1 rfl rfl)
theorem dX7_start_2 : decode cX7_start 2 = .ok (.putfield 48, 3) := dk_181 0 48 (dk_at dksX7_start_0 2 rfl rfl)
theorem dX7_start_5 : decode cX7_start 5 = .ok (.aload_n 0, 1) := dk_42 (dk_at dksX7_start_0 5 rfl rfl)
theorem dX7_start_6 : decode cX7_start 6 = .ok (.iload_n 1, 1) := dk_27 (dk_at dksX7_start_0 6 rfl rfl)
theorem dX7_start_7 : decode cX7_start 7 = .ok (.iload_n 2, 1) := dk_28 (dk_at dksX7_start_0 7 rfl rfl)
theorem dX7_start_8 : decode cX7_start 8 = .ok (.invokevirtual 51, 3) := dk_182 0 51 (dk_at dksX7_start_0 8 rfl rfl)
theorem dX7_start_11 : decode cX7_start 11 = .ok (.ireturn, 1) := dk_172 (dk_at dksX7_start_0 11 rfl rfl)
abbrev cX7_refuse : ByteArray := prog_15_method_12_code
def yX7_refuse : MethodName := ⟨RX7, "refuse", "(ZI)Z"⟩
def dkwX7_refuse_1 : List UInt8 := [167, 0, 4, 3, 172]
abbrev dktX7_refuse_1 : List UInt8 := dkwX7_refuse_1 ++ []
def dkwX7_refuse_0 : List UInt8 := [27, 153, 0, 15, 42, 180, 0, 48, 154, 0, 8, 42, 28, 181, 0, 48, 42, 180, 0, 48, 158, 0, 7, 4]
abbrev dktX7_refuse_0 : List UInt8 := dkwX7_refuse_0 ++ dktX7_refuse_1
theorem dksX7_refuse_0 : cX7_refuse.data.toList.drop 0 = dktX7_refuse_0 := by decide +kernel
theorem dksX7_refuse_1 : cX7_refuse.data.toList.drop 24 = dktX7_refuse_1 := dk_seg dksX7_refuse_0 24 rfl rfl
theorem dX7_refuse_0 : decode cX7_refuse 0 = .ok (.iload_n 1, 1) := dk_27 (dk_at dksX7_refuse_0 0 rfl rfl)
theorem dX7_refuse_1 : decode cX7_refuse 1 = .ok (.ifCond .eq 15, 3) := dk_153 0 15 (dk_at dksX7_refuse_0 1 rfl rfl)
theorem dX7_refuse_4 : decode cX7_refuse 4 = .ok (.aload_n 0, 1) := dk_42 (dk_at dksX7_refuse_0 4 rfl rfl)
theorem dX7_refuse_5 : decode cX7_refuse 5 = .ok (.getfield 48, 3) := dk_180 0 48 (dk_at dksX7_refuse_0 5 rfl rfl)
theorem dX7_refuse_8 : decode cX7_refuse 8 = .ok (.ifCond .ne 8, 3) := dk_154 0 8 (dk_at dksX7_refuse_0 8 rfl rfl)
theorem dX7_refuse_11 : decode cX7_refuse 11 = .ok (.aload_n 0, 1) := dk_42 (dk_at dksX7_refuse_0 11 rfl rfl)
theorem dX7_refuse_12 : decode cX7_refuse 12 = .ok (.iload_n 2, 1) := dk_28 (dk_at dksX7_refuse_0 12 rfl rfl)
theorem dX7_refuse_13 : decode cX7_refuse 13 = .ok (.putfield 48, 3) := dk_181 0 48 (dk_at dksX7_refuse_0 13 rfl rfl)
theorem dX7_refuse_16 : decode cX7_refuse 16 = .ok (.aload_n 0, 1) := dk_42 (dk_at dksX7_refuse_0 16 rfl rfl)
theorem dX7_refuse_17 : decode cX7_refuse 17 = .ok (.getfield 48, 3) := dk_180 0 48 (dk_at dksX7_refuse_0 17 rfl rfl)
theorem dX7_refuse_20 : decode cX7_refuse 20 = .ok (.ifCond .le 7, 3) := dk_158 0 7 (dk_at dksX7_refuse_0 20 rfl rfl)
theorem dX7_refuse_23 : decode cX7_refuse 23 = .ok (.iconst 1, 1) := dk_4 (dk_at dksX7_refuse_0 23 rfl rfl)
theorem dX7_refuse_24 : decode cX7_refuse 24 = .ok (.goto 4, 3) := dk_167 0 4 (dk_at dksX7_refuse_1 0 rfl rfl)
theorem dX7_refuse_27 : decode cX7_refuse 27 = .ok (.iconst 0, 1) := dk_3 (dk_at dksX7_refuse_1 3 rfl rfl)
theorem dX7_refuse_28 : decode cX7_refuse 28 = .ok (.ireturn, 1) := dk_172 (dk_at dksX7_refuse_1 4 rfl rfl)
abbrev cX7_keep : ByteArray := prog_15_method_18_code
def yX7_keep : MethodName := ⟨RX7, "keep", "()V"⟩
def dkwX7_keep_0 : List UInt8 := [42, 42, 180, 0, 12, 182, 0, 91, 181, 0, 18, 42, 3, 181, 0, 82, 42, 180, 0, 28, 182, 0, 88, 177]
abbrev dktX7_keep_0 : List UInt8 := dkwX7_keep_0 ++ []
theorem dksX7_keep_0 : cX7_keep.data.toList.drop 0 = dktX7_keep_0 := by decide +kernel
theorem dX7_keep_0 : decode cX7_keep 0 = .ok (.aload_n 0, 1) := dk_42 (dk_at dksX7_keep_0 0 rfl rfl)
theorem dX7_keep_1 : decode cX7_keep 1 = .ok (.aload_n 0, 1) := dk_42 (dk_at dksX7_keep_0 1 rfl rfl)
theorem dX7_keep_2 : decode cX7_keep 2 = .ok (.getfield 12, 3) := dk_180 0 12 (dk_at dksX7_keep_0 2 rfl rfl)
theorem dX7_keep_5 : decode cX7_keep 5 = .ok (.invokevirtual 91, 3) := dk_182 0 91 (dk_at dksX7_keep_0 5 rfl rfl)
theorem dX7_keep_8 : decode cX7_keep 8 = .ok (.putfield 18, 3) := dk_181 0 18 (dk_at dksX7_keep_0 8 rfl rfl)
theorem dX7_keep_11 : decode cX7_keep 11 = .ok (.aload_n 0, 1) := dk_42 (dk_at dksX7_keep_0 11 rfl rfl)
theorem dX7_keep_12 : decode cX7_keep 12 = .ok (.iconst 0, 1) := dk_3 (dk_at dksX7_keep_0 12 rfl rfl)
theorem dX7_keep_13 : decode cX7_keep 13 = .ok (.putfield 82, 3) := dk_181 0 82 (dk_at dksX7_keep_0 13 rfl rfl)
theorem dX7_keep_16 : decode cX7_keep 16 = .ok (.aload_n 0, 1) := dk_42 (dk_at dksX7_keep_0 16 rfl rfl)
theorem dX7_keep_17 : decode cX7_keep 17 = .ok (.getfield 28, 3) := dk_180 0 28 (dk_at dksX7_keep_0 17 rfl rfl)
theorem dX7_keep_20 : decode cX7_keep 20 = .ok (.invokevirtual 88, 3) := dk_182 0 88 (dk_at dksX7_keep_0 20 rfl rfl)
theorem dX7_keep_23 : decode cX7_keep 23 = .ok (.return_, 1) := dk_177 (dk_at dksX7_keep_0 23 rfl rfl)
abbrev cX7_bounds : ByteArray := prog_15_method_21_code
def yX7_bounds : MethodName := ⟨RX7, "bounds", "(II)I"⟩
def dkwX7_bounds_1 : List UInt8 := [167, 0, 4, 3, 4, 182, 0, 105, 153, 0, 7, 3, 167, 0, 10, 42, 6, 27, 28, 182, 0, 117, 172]
abbrev dktX7_bounds_1 : List UInt8 := dkwX7_bounds_1 ++ []
def dkwX7_bounds_0 : List UInt8 := [42, 27, 3, 16, 40, 184, 0, 55, 153, 0, 14, 28, 16, 50, 16, 100, 184, 0, 55, 154, 0, 7, 4]
abbrev dktX7_bounds_0 : List UInt8 := dkwX7_bounds_0 ++ dktX7_bounds_1
theorem dksX7_bounds_0 : cX7_bounds.data.toList.drop 0 = dktX7_bounds_0 := by decide +kernel
theorem dksX7_bounds_1 : cX7_bounds.data.toList.drop 23 = dktX7_bounds_1 := dk_seg dksX7_bounds_0 23 rfl rfl
theorem dX7_bounds_0 : decode cX7_bounds 0 = .ok (.aload_n 0, 1) := dk_42 (dk_at dksX7_bounds_0 0 rfl rfl)
theorem dX7_bounds_1 : decode cX7_bounds 1 = .ok (.iload_n 1, 1) := dk_27 (dk_at dksX7_bounds_0 1 rfl rfl)
theorem dX7_bounds_2 : decode cX7_bounds 2 = .ok (.iconst 0, 1) := dk_3 (dk_at dksX7_bounds_0 2 rfl rfl)
theorem dX7_bounds_3 : decode cX7_bounds 3 = .ok (.bipush 40, 2) := dk_16 40 (dk_at dksX7_bounds_0 3 rfl rfl)
theorem dX7_bounds_5 : decode cX7_bounds 5 = .ok (.invokestatic 55, 3) := dk_184 0 55 (dk_at dksX7_bounds_0 5 rfl rfl)
theorem dX7_bounds_8 : decode cX7_bounds 8 = .ok (.ifCond .eq 14, 3) := dk_153 0 14 (dk_at dksX7_bounds_0 8 rfl rfl)
theorem dX7_bounds_11 : decode cX7_bounds 11 = .ok (.iload_n 2, 1) := dk_28 (dk_at dksX7_bounds_0 11 rfl rfl)
theorem dX7_bounds_12 : decode cX7_bounds 12 = .ok (.bipush 50, 2) := dk_16 50 (dk_at dksX7_bounds_0 12 rfl rfl)
theorem dX7_bounds_14 : decode cX7_bounds 14 = .ok (.bipush 100, 2) := dk_16 100 (dk_at dksX7_bounds_0 14 rfl rfl)
theorem dX7_bounds_16 : decode cX7_bounds 16 = .ok (.invokestatic 55, 3) := dk_184 0 55 (dk_at dksX7_bounds_0 16 rfl rfl)
theorem dX7_bounds_19 : decode cX7_bounds 19 = .ok (.ifCond .ne 7, 3) := dk_154 0 7 (dk_at dksX7_bounds_0 19 rfl rfl)
theorem dX7_bounds_22 : decode cX7_bounds 22 = .ok (.iconst 1, 1) := dk_4 (dk_at dksX7_bounds_0 22 rfl rfl)
theorem dX7_bounds_23 : decode cX7_bounds 23 = .ok (.goto 4, 3) := dk_167 0 4 (dk_at dksX7_bounds_1 0 rfl rfl)
theorem dX7_bounds_26 : decode cX7_bounds 26 = .ok (.iconst 0, 1) := dk_3 (dk_at dksX7_bounds_1 3 rfl rfl)
theorem dX7_bounds_27 : decode cX7_bounds 27 = .ok (.iconst 1, 1) := dk_4 (dk_at dksX7_bounds_1 4 rfl rfl)
theorem dX7_bounds_28 : decode cX7_bounds 28 = .ok (.invokevirtual 105, 3) := dk_182 0 105 (dk_at dksX7_bounds_1 5 rfl rfl)
theorem dX7_bounds_31 : decode cX7_bounds 31 = .ok (.ifCond .eq 7, 3) := dk_153 0 7 (dk_at dksX7_bounds_1 8 rfl rfl)
theorem dX7_bounds_34 : decode cX7_bounds 34 = .ok (.iconst 0, 1) := dk_3 (dk_at dksX7_bounds_1 11 rfl rfl)
theorem dX7_bounds_35 : decode cX7_bounds 35 = .ok (.goto 10, 3) := dk_167 0 10 (dk_at dksX7_bounds_1 12 rfl rfl)
theorem dX7_bounds_38 : decode cX7_bounds 38 = .ok (.aload_n 0, 1) := dk_42 (dk_at dksX7_bounds_1 15 rfl rfl)
theorem dX7_bounds_39 : decode cX7_bounds 39 = .ok (.iconst 3, 1) := dk_6 (dk_at dksX7_bounds_1 16 rfl rfl)
theorem dX7_bounds_40 : decode cX7_bounds 40 = .ok (.iload_n 1, 1) := dk_27 (dk_at dksX7_bounds_1 17 rfl rfl)
theorem dX7_bounds_41 : decode cX7_bounds 41 = .ok (.iload_n 2, 1) := dk_28 (dk_at dksX7_bounds_1 18 rfl rfl)
theorem dX7_bounds_42 : decode cX7_bounds 42 = .ok (.invokevirtual 117, 3) := dk_182 0 117 (dk_at dksX7_bounds_1 19 rfl rfl)
theorem dX7_bounds_45 : decode cX7_bounds 45 = .ok (.ireturn, 1) := dk_172 (dk_at dksX7_bounds_1 22 rfl rfl)
abbrev cX7_act : ByteArray := prog_15_method_19_code
def yX7_act : MethodName := ⟨RX7, "act", "(III)I"⟩
def dkwX7_act_3 : List UInt8 := [161, 0, 7, 42, 182, 0, 102, 21, 5, 172]
abbrev dktX7_act_3 : List UInt8 := dkwX7_act_3 ++ []
def dkwX7_act_2 : List UInt8 := [54, 5, 42, 180, 0, 28, 25, 4, 182, 0, 98, 87, 42, 180, 0, 28, 182, 0, 85, 42, 180, 0, 21]
abbrev dktX7_act_2 : List UInt8 := dkwX7_act_2 ++ dktX7_act_3
def dkwX7_act_1 : List UInt8 := [89, 3, 27, 79, 89, 4, 28, 79, 89, 5, 29, 79, 58, 4, 42, 180, 0, 12, 25, 4, 182, 0, 78]
abbrev dktX7_act_1 : List UInt8 := dkwX7_act_1 ++ dktX7_act_2
def dkwX7_act_0 : List UInt8 := [42, 180, 0, 82, 42, 180, 0, 28, 182, 0, 85, 96, 16, 60, 160, 0, 7, 42, 182, 0, 95, 6, 188, 10]
abbrev dktX7_act_0 : List UInt8 := dkwX7_act_0 ++ dktX7_act_1
theorem dksX7_act_0 : cX7_act.data.toList.drop 0 = dktX7_act_0 := by decide +kernel
theorem dksX7_act_1 : cX7_act.data.toList.drop 24 = dktX7_act_1 := dk_seg dksX7_act_0 24 rfl rfl
theorem dksX7_act_2 : cX7_act.data.toList.drop 47 = dktX7_act_2 := dk_seg dksX7_act_1 23 rfl rfl
theorem dksX7_act_3 : cX7_act.data.toList.drop 70 = dktX7_act_3 := dk_seg dksX7_act_2 23 rfl rfl
theorem dX7_act_0 : decode cX7_act 0 = .ok (.aload_n 0, 1) := dk_42 (dk_at dksX7_act_0 0 rfl rfl)
theorem dX7_act_1 : decode cX7_act 1 = .ok (.getfield 82, 3) := dk_180 0 82 (dk_at dksX7_act_0 1 rfl rfl)
theorem dX7_act_4 : decode cX7_act 4 = .ok (.aload_n 0, 1) := dk_42 (dk_at dksX7_act_0 4 rfl rfl)
theorem dX7_act_5 : decode cX7_act 5 = .ok (.getfield 28, 3) := dk_180 0 28 (dk_at dksX7_act_0 5 rfl rfl)
theorem dX7_act_8 : decode cX7_act 8 = .ok (.invokevirtual 85, 3) := dk_182 0 85 (dk_at dksX7_act_0 8 rfl rfl)
theorem dX7_act_11 : decode cX7_act 11 = .ok (.iadd, 1) := dk_96 (dk_at dksX7_act_0 11 rfl rfl)
theorem dX7_act_12 : decode cX7_act 12 = .ok (.bipush 60, 2) := dk_16 60 (dk_at dksX7_act_0 12 rfl rfl)
theorem dX7_act_14 : decode cX7_act 14 = .ok (.if_icmp .ne 7, 3) := dk_160 0 7 (dk_at dksX7_act_0 14 rfl rfl)
theorem dX7_act_17 : decode cX7_act 17 = .ok (.aload_n 0, 1) := dk_42 (dk_at dksX7_act_0 17 rfl rfl)
theorem dX7_act_18 : decode cX7_act 18 = .ok (.invokevirtual 95, 3) := dk_182 0 95 (dk_at dksX7_act_0 18 rfl rfl)
theorem dX7_act_21 : decode cX7_act 21 = .ok (.iconst 3, 1) := dk_6 (dk_at dksX7_act_0 21 rfl rfl)
theorem dX7_act_22 : decode cX7_act 22 = .ok (.newarray .int, 2) := dk_188_10 (dk_at dksX7_act_0 22 rfl rfl)
theorem dX7_act_24 : decode cX7_act 24 = .ok (.dup, 1) := dk_89 (dk_at dksX7_act_1 0 rfl rfl)
theorem dX7_act_25 : decode cX7_act 25 = .ok (.iconst 0, 1) := dk_3 (dk_at dksX7_act_1 1 rfl rfl)
theorem dX7_act_26 : decode cX7_act 26 = .ok (.iload_n 1, 1) := dk_27 (dk_at dksX7_act_1 2 rfl rfl)
theorem dX7_act_27 : decode cX7_act 27 = .ok (.iastore, 1) := dk_79 (dk_at dksX7_act_1 3 rfl rfl)
theorem dX7_act_28 : decode cX7_act 28 = .ok (.dup, 1) := dk_89 (dk_at dksX7_act_1 4 rfl rfl)
theorem dX7_act_29 : decode cX7_act 29 = .ok (.iconst 1, 1) := dk_4 (dk_at dksX7_act_1 5 rfl rfl)
theorem dX7_act_30 : decode cX7_act 30 = .ok (.iload_n 2, 1) := dk_28 (dk_at dksX7_act_1 6 rfl rfl)
theorem dX7_act_31 : decode cX7_act 31 = .ok (.iastore, 1) := dk_79 (dk_at dksX7_act_1 7 rfl rfl)
theorem dX7_act_32 : decode cX7_act 32 = .ok (.dup, 1) := dk_89 (dk_at dksX7_act_1 8 rfl rfl)
theorem dX7_act_33 : decode cX7_act 33 = .ok (.iconst 2, 1) := dk_5 (dk_at dksX7_act_1 9 rfl rfl)
theorem dX7_act_34 : decode cX7_act 34 = .ok (.iload_n 3, 1) := dk_29 (dk_at dksX7_act_1 10 rfl rfl)
theorem dX7_act_35 : decode cX7_act 35 = .ok (.iastore, 1) := dk_79 (dk_at dksX7_act_1 11 rfl rfl)
theorem dX7_act_36 : decode cX7_act 36 = .ok (.astore 4, 2) := dk_58 4 (dk_at dksX7_act_1 12 rfl rfl)
theorem dX7_act_38 : decode cX7_act 38 = .ok (.aload_n 0, 1) := dk_42 (dk_at dksX7_act_1 14 rfl rfl)
theorem dX7_act_39 : decode cX7_act 39 = .ok (.getfield 12, 3) := dk_180 0 12 (dk_at dksX7_act_1 15 rfl rfl)
theorem dX7_act_42 : decode cX7_act 42 = .ok (.aload 4, 2) := dk_25 4 (dk_at dksX7_act_1 18 rfl rfl)
theorem dX7_act_44 : decode cX7_act 44 = .ok (.invokevirtual 78, 3) := dk_182 0 78 (dk_at dksX7_act_1 20 rfl rfl)
theorem dX7_act_47 : decode cX7_act 47 = .ok (.istore 5, 2) := dk_54 5 (dk_at dksX7_act_2 0 rfl rfl)
theorem dX7_act_49 : decode cX7_act 49 = .ok (.aload_n 0, 1) := dk_42 (dk_at dksX7_act_2 2 rfl rfl)
theorem dX7_act_50 : decode cX7_act 50 = .ok (.getfield 28, 3) := dk_180 0 28 (dk_at dksX7_act_2 3 rfl rfl)
theorem dX7_act_53 : decode cX7_act 53 = .ok (.aload 4, 2) := dk_25 4 (dk_at dksX7_act_2 6 rfl rfl)
theorem dX7_act_55 : decode cX7_act 55 = .ok (.invokevirtual 98, 3) := dk_182 0 98 (dk_at dksX7_act_2 8 rfl rfl)
theorem dX7_act_58 : decode cX7_act 58 = .ok (.pop, 1) := dk_87 (dk_at dksX7_act_2 11 rfl rfl)
theorem dX7_act_59 : decode cX7_act 59 = .ok (.aload_n 0, 1) := dk_42 (dk_at dksX7_act_2 12 rfl rfl)
theorem dX7_act_60 : decode cX7_act 60 = .ok (.getfield 28, 3) := dk_180 0 28 (dk_at dksX7_act_2 13 rfl rfl)
theorem dX7_act_63 : decode cX7_act 63 = .ok (.invokevirtual 85, 3) := dk_182 0 85 (dk_at dksX7_act_2 16 rfl rfl)
theorem dX7_act_66 : decode cX7_act 66 = .ok (.aload_n 0, 1) := dk_42 (dk_at dksX7_act_2 19 rfl rfl)
theorem dX7_act_67 : decode cX7_act 67 = .ok (.getfield 21, 3) := dk_180 0 21 (dk_at dksX7_act_2 20 rfl rfl)
theorem dX7_act_70 : decode cX7_act 70 = .ok (.if_icmp .lt 7, 3) := dk_161 0 7 (dk_at dksX7_act_3 0 rfl rfl)
theorem dX7_act_73 : decode cX7_act 73 = .ok (.aload_n 0, 1) := dk_42 (dk_at dksX7_act_3 3 rfl rfl)
theorem dX7_act_74 : decode cX7_act 74 = .ok (.invokevirtual 102, 3) := dk_182 0 102 (dk_at dksX7_act_3 4 rfl rfl)
theorem dX7_act_77 : decode cX7_act 77 = .ok (.iload 5, 2) := dk_21 5 (dk_at dksX7_act_3 7 rfl rfl)
theorem dX7_act_79 : decode cX7_act 79 = .ok (.ireturn, 1) := dk_172 (dk_at dksX7_act_3 9 rfl rfl)
abbrev cX7_address : ByteArray := prog_15_method_6_code
def yX7_address : MethodName := ⟨RX7, "address", "(II)I"⟩
def dkwX7_address_0 : List UInt8 := [27, 184, 0, 39, 61, 26, 5, 28, 104, 112, 62, 29, 27, 162, 0, 7, 29, 167, 0, 6, 29, 28, 100, 172]
abbrev dktX7_address_0 : List UInt8 := dkwX7_address_0 ++ []
theorem dksX7_address_0 : cX7_address.data.toList.drop 0 = dktX7_address_0 := by decide +kernel
theorem dX7_address_0 : decode cX7_address 0 = .ok (.iload_n 1, 1) := dk_27 (dk_at dksX7_address_0 0 rfl rfl)
theorem dX7_address_1 : decode cX7_address 1 = .ok (.invokestatic 39, 3) := dk_184 0 39 (dk_at dksX7_address_0 1 rfl rfl)
theorem dX7_address_4 : decode cX7_address 4 = .ok (.istore_n 2, 1) := dk_61 (dk_at dksX7_address_0 4 rfl rfl)
theorem dX7_address_5 : decode cX7_address 5 = .ok (.iload_n 0, 1) := dk_26 (dk_at dksX7_address_0 5 rfl rfl)
theorem dX7_address_6 : decode cX7_address 6 = .ok (.iconst 2, 1) := dk_5 (dk_at dksX7_address_0 6 rfl rfl)
theorem dX7_address_7 : decode cX7_address 7 = .ok (.iload_n 2, 1) := dk_28 (dk_at dksX7_address_0 7 rfl rfl)
theorem dX7_address_8 : decode cX7_address 8 = .ok (.imul, 1) := dk_104 (dk_at dksX7_address_0 8 rfl rfl)
theorem dX7_address_9 : decode cX7_address 9 = .ok (.irem, 1) := dk_112 (dk_at dksX7_address_0 9 rfl rfl)
theorem dX7_address_10 : decode cX7_address 10 = .ok (.istore_n 3, 1) := dk_62 (dk_at dksX7_address_0 10 rfl rfl)
theorem dX7_address_11 : decode cX7_address 11 = .ok (.iload_n 3, 1) := dk_29 (dk_at dksX7_address_0 11 rfl rfl)
theorem dX7_address_12 : decode cX7_address 12 = .ok (.iload_n 1, 1) := dk_27 (dk_at dksX7_address_0 12 rfl rfl)
theorem dX7_address_13 : decode cX7_address 13 = .ok (.if_icmp .ge 7, 3) := dk_162 0 7 (dk_at dksX7_address_0 13 rfl rfl)
theorem dX7_address_16 : decode cX7_address 16 = .ok (.iload_n 3, 1) := dk_29 (dk_at dksX7_address_0 16 rfl rfl)
theorem dX7_address_17 : decode cX7_address 17 = .ok (.goto 6, 3) := dk_167 0 6 (dk_at dksX7_address_0 17 rfl rfl)
theorem dX7_address_20 : decode cX7_address 20 = .ok (.iload_n 3, 1) := dk_29 (dk_at dksX7_address_0 20 rfl rfl)
theorem dX7_address_21 : decode cX7_address 21 = .ok (.iload_n 2, 1) := dk_28 (dk_at dksX7_address_0 21 rfl rfl)
theorem dX7_address_22 : decode cX7_address 22 = .ok (.isub, 1) := dk_100 (dk_at dksX7_address_0 22 rfl rfl)
theorem dX7_address_23 : decode cX7_address 23 = .ok (.ireturn, 1) := dk_172 (dk_at dksX7_address_0 23 rfl rfl)
abbrev cX7_both : ByteArray := prog_15_method_9_code
def yX7_both : MethodName := ⟨RX7, "both", "(I)I"⟩
def dkwX7_both_0 : List UInt8 := [4, 26, 16, 16, 112, 120, 4, 26, 16, 16, 108, 16, 16, 112, 120, 128, 172]
abbrev dktX7_both_0 : List UInt8 := dkwX7_both_0 ++ []
theorem dksX7_both_0 : cX7_both.data.toList.drop 0 = dktX7_both_0 := by decide +kernel
theorem dX7_both_0 : decode cX7_both 0 = .ok (.iconst 1, 1) := dk_4 (dk_at dksX7_both_0 0 rfl rfl)
theorem dX7_both_1 : decode cX7_both 1 = .ok (.iload_n 0, 1) := dk_26 (dk_at dksX7_both_0 1 rfl rfl)
theorem dX7_both_2 : decode cX7_both 2 = .ok (.bipush 16, 2) := dk_16 16 (dk_at dksX7_both_0 2 rfl rfl)
theorem dX7_both_4 : decode cX7_both 4 = .ok (.irem, 1) := dk_112 (dk_at dksX7_both_0 4 rfl rfl)
theorem dX7_both_5 : decode cX7_both 5 = .ok (.ishl, 1) := dk_120 (dk_at dksX7_both_0 5 rfl rfl)
theorem dX7_both_6 : decode cX7_both 6 = .ok (.iconst 1, 1) := dk_4 (dk_at dksX7_both_0 6 rfl rfl)
theorem dX7_both_7 : decode cX7_both 7 = .ok (.iload_n 0, 1) := dk_26 (dk_at dksX7_both_0 7 rfl rfl)
theorem dX7_both_8 : decode cX7_both 8 = .ok (.bipush 16, 2) := dk_16 16 (dk_at dksX7_both_0 8 rfl rfl)
theorem dX7_both_10 : decode cX7_both 10 = .ok (.idiv, 1) := dk_108 (dk_at dksX7_both_0 10 rfl rfl)
theorem dX7_both_11 : decode cX7_both 11 = .ok (.bipush 16, 2) := dk_16 16 (dk_at dksX7_both_0 11 rfl rfl)
theorem dX7_both_13 : decode cX7_both 13 = .ok (.irem, 1) := dk_112 (dk_at dksX7_both_0 13 rfl rfl)
theorem dX7_both_14 : decode cX7_both 14 = .ok (.ishl, 1) := dk_120 (dk_at dksX7_both_0 14 rfl rfl)
theorem dX7_both_15 : decode cX7_both 15 = .ok (.ior, 1) := dk_128 (dk_at dksX7_both_0 15 rfl rfl)
theorem dX7_both_16 : decode cX7_both 16 = .ok (.ireturn, 1) := dk_172 (dk_at dksX7_both_0 16 rfl rfl)
abbrev cX7_pointer : ByteArray := prog_15_method_5_code
def yX7_pointer : MethodName := ⟨RX7, "pointer", "(I)I"⟩
def dkwX7_pointer_0 : List UInt8 := [26, 26, 184, 0, 39, 100, 172]
abbrev dktX7_pointer_0 : List UInt8 := dkwX7_pointer_0 ++ []
theorem dksX7_pointer_0 : cX7_pointer.data.toList.drop 0 = dktX7_pointer_0 := by decide +kernel
theorem dX7_pointer_0 : decode cX7_pointer 0 = .ok (.iload_n 0, 1) := dk_26 (dk_at dksX7_pointer_0 0 rfl rfl)
theorem dX7_pointer_1 : decode cX7_pointer 1 = .ok (.iload_n 0, 1) := dk_26 (dk_at dksX7_pointer_0 1 rfl rfl)
theorem dX7_pointer_2 : decode cX7_pointer 2 = .ok (.invokestatic 39, 3) := dk_184 0 39 (dk_at dksX7_pointer_0 2 rfl rfl)
theorem dX7_pointer_5 : decode cX7_pointer 5 = .ok (.isub, 1) := dk_100 (dk_at dksX7_pointer_0 5 rfl rfl)
theorem dX7_pointer_6 : decode cX7_pointer 6 = .ok (.ireturn, 1) := dk_172 (dk_at dksX7_pointer_0 6 rfl rfl)
abbrev cX7_flushAll : ByteArray := prog_15_method_17_code
def yX7_flushAll : MethodName := ⟨RX7, "flushAll", "()V"⟩
def dkwX7_flushAll_2 : List UInt8 := [180, 0, 28, 182, 0, 85, 96, 181, 0, 82, 42, 180, 0, 28, 182, 0, 88, 177]
abbrev dktX7_flushAll_2 : List UInt8 := dkwX7_flushAll_2 ++ []
def dkwX7_flushAll_1 : List UInt8 := [192, 0, 77, 77, 42, 180, 0, 18, 44, 182, 0, 78, 87, 167, 255, 228, 42, 89, 180, 0, 82, 42]
abbrev dktX7_flushAll_1 : List UInt8 := dkwX7_flushAll_1 ++ dktX7_flushAll_2
def dkwX7_flushAll_0 : List UInt8 := [42, 180, 0, 28, 182, 0, 63, 76, 43, 185, 0, 67, 1, 0, 153, 0, 25, 43, 185, 0, 73, 1, 0]
abbrev dktX7_flushAll_0 : List UInt8 := dkwX7_flushAll_0 ++ dktX7_flushAll_1
theorem dksX7_flushAll_0 : cX7_flushAll.data.toList.drop 0 = dktX7_flushAll_0 := by decide +kernel
theorem dksX7_flushAll_1 : cX7_flushAll.data.toList.drop 23 = dktX7_flushAll_1 := dk_seg dksX7_flushAll_0 23 rfl rfl
theorem dksX7_flushAll_2 : cX7_flushAll.data.toList.drop 45 = dktX7_flushAll_2 := dk_seg dksX7_flushAll_1 22 rfl rfl
theorem dX7_flushAll_0 : decode cX7_flushAll 0 = .ok (.aload_n 0, 1) := dk_42 (dk_at dksX7_flushAll_0 0 rfl rfl)
theorem dX7_flushAll_1 : decode cX7_flushAll 1 = .ok (.getfield 28, 3) := dk_180 0 28 (dk_at dksX7_flushAll_0 1 rfl rfl)
theorem dX7_flushAll_4 : decode cX7_flushAll 4 = .ok (.invokevirtual 63, 3) := dk_182 0 63 (dk_at dksX7_flushAll_0 4 rfl rfl)
theorem dX7_flushAll_7 : decode cX7_flushAll 7 = .ok (.astore_n 1, 1) := dk_76 (dk_at dksX7_flushAll_0 7 rfl rfl)
theorem dX7_flushAll_8 : decode cX7_flushAll 8 = .ok (.aload_n 1, 1) := dk_43 (dk_at dksX7_flushAll_0 8 rfl rfl)
theorem dX7_flushAll_9 : decode cX7_flushAll 9 = .ok (.invokeinterface 67 1, 5) := by decide +kernel
theorem dX7_flushAll_14 : decode cX7_flushAll 14 = .ok (.ifCond .eq 25, 3) := dk_153 0 25 (dk_at dksX7_flushAll_0 14 rfl rfl)
theorem dX7_flushAll_17 : decode cX7_flushAll 17 = .ok (.aload_n 1, 1) := dk_43 (dk_at dksX7_flushAll_0 17 rfl rfl)
theorem dX7_flushAll_18 : decode cX7_flushAll 18 = .ok (.invokeinterface 73 1, 5) := by decide +kernel
theorem dX7_flushAll_23 : decode cX7_flushAll 23 = .ok (.checkcast 77, 3) := dk_192 0 77 (dk_at dksX7_flushAll_1 0 rfl rfl)
theorem dX7_flushAll_26 : decode cX7_flushAll 26 = .ok (.astore_n 2, 1) := dk_77 (dk_at dksX7_flushAll_1 3 rfl rfl)
theorem dX7_flushAll_27 : decode cX7_flushAll 27 = .ok (.aload_n 0, 1) := dk_42 (dk_at dksX7_flushAll_1 4 rfl rfl)
theorem dX7_flushAll_28 : decode cX7_flushAll 28 = .ok (.getfield 18, 3) := dk_180 0 18 (dk_at dksX7_flushAll_1 5 rfl rfl)
theorem dX7_flushAll_31 : decode cX7_flushAll 31 = .ok (.aload_n 2, 1) := dk_44 (dk_at dksX7_flushAll_1 8 rfl rfl)
theorem dX7_flushAll_32 : decode cX7_flushAll 32 = .ok (.invokevirtual 78, 3) := dk_182 0 78 (dk_at dksX7_flushAll_1 9 rfl rfl)
theorem dX7_flushAll_35 : decode cX7_flushAll 35 = .ok (.pop, 1) := dk_87 (dk_at dksX7_flushAll_1 12 rfl rfl)
theorem dX7_flushAll_36 : decode cX7_flushAll 36 = .ok (.goto (-28), 3) := dk_167 255 228 (dk_at dksX7_flushAll_1 13 rfl rfl)
theorem dX7_flushAll_39 : decode cX7_flushAll 39 = .ok (.aload_n 0, 1) := dk_42 (dk_at dksX7_flushAll_1 16 rfl rfl)
theorem dX7_flushAll_40 : decode cX7_flushAll 40 = .ok (.dup, 1) := dk_89 (dk_at dksX7_flushAll_1 17 rfl rfl)
theorem dX7_flushAll_41 : decode cX7_flushAll 41 = .ok (.getfield 82, 3) := dk_180 0 82 (dk_at dksX7_flushAll_1 18 rfl rfl)
theorem dX7_flushAll_44 : decode cX7_flushAll 44 = .ok (.aload_n 0, 1) := dk_42 (dk_at dksX7_flushAll_1 21 rfl rfl)
theorem dX7_flushAll_45 : decode cX7_flushAll 45 = .ok (.getfield 28, 3) := dk_180 0 28 (dk_at dksX7_flushAll_2 0 rfl rfl)
theorem dX7_flushAll_48 : decode cX7_flushAll 48 = .ok (.invokevirtual 85, 3) := dk_182 0 85 (dk_at dksX7_flushAll_2 3 rfl rfl)
theorem dX7_flushAll_51 : decode cX7_flushAll 51 = .ok (.iadd, 1) := dk_96 (dk_at dksX7_flushAll_2 6 rfl rfl)
theorem dX7_flushAll_52 : decode cX7_flushAll 52 = .ok (.putfield 82, 3) := dk_181 0 82 (dk_at dksX7_flushAll_2 7 rfl rfl)
theorem dX7_flushAll_55 : decode cX7_flushAll 55 = .ok (.aload_n 0, 1) := dk_42 (dk_at dksX7_flushAll_2 10 rfl rfl)
theorem dX7_flushAll_56 : decode cX7_flushAll 56 = .ok (.getfield 28, 3) := dk_180 0 28 (dk_at dksX7_flushAll_2 11 rfl rfl)
theorem dX7_flushAll_59 : decode cX7_flushAll 59 = .ok (.invokevirtual 88, 3) := dk_182 0 88 (dk_at dksX7_flushAll_2 14 rfl rfl)
theorem dX7_flushAll_62 : decode cX7_flushAll 62 = .ok (.return_, 1) := dk_177 (dk_at dksX7_flushAll_2 17 rfl rfl)
abbrev cX7_put : ByteArray := prog_15_method_22_code
def yX7_put : MethodName := ⟨RX7, "put", "(II)I"⟩
def dkwX7_put_3 : List UInt8 := [27, 28, 182, 0, 117, 172]
abbrev dktX7_put_3 : List UInt8 := dkwX7_put_3 ++ []
def dkwX7_put_2 : List UInt8 := [27, 182, 0, 124, 2, 160, 0, 7, 4, 167, 0, 4, 3, 5, 182, 0, 51, 153, 0, 5, 3, 172, 42, 3]
abbrev dktX7_put_2 : List UInt8 := dkwX7_put_2 ++ dktX7_put_3
def dkwX7_put_1 : List UInt8 := [4, 182, 0, 105, 154, 0, 40, 42, 42, 180, 0, 12, 182, 0, 108, 16, 60, 160, 0, 19, 42, 180, 0, 12]
abbrev dktX7_put_1 : List UInt8 := dkwX7_put_1 ++ dktX7_put_2
def dkwX7_put_0 : List UInt8 := [42, 27, 184, 0, 120, 154, 0, 14, 28, 3, 17, 39, 15, 184, 0, 55, 154, 0, 7, 4, 167, 0, 4, 3]
abbrev dktX7_put_0 : List UInt8 := dkwX7_put_0 ++ dktX7_put_1
theorem dksX7_put_0 : cX7_put.data.toList.drop 0 = dktX7_put_0 := by decide +kernel
theorem dksX7_put_1 : cX7_put.data.toList.drop 24 = dktX7_put_1 := dk_seg dksX7_put_0 24 rfl rfl
theorem dksX7_put_2 : cX7_put.data.toList.drop 48 = dktX7_put_2 := dk_seg dksX7_put_1 24 rfl rfl
theorem dksX7_put_3 : cX7_put.data.toList.drop 72 = dktX7_put_3 := dk_seg dksX7_put_2 24 rfl rfl
theorem dX7_put_0 : decode cX7_put 0 = .ok (.aload_n 0, 1) := dk_42 (dk_at dksX7_put_0 0 rfl rfl)
theorem dX7_put_1 : decode cX7_put 1 = .ok (.iload_n 1, 1) := dk_27 (dk_at dksX7_put_0 1 rfl rfl)
theorem dX7_put_2 : decode cX7_put 2 = .ok (.invokestatic 120, 3) := dk_184 0 120 (dk_at dksX7_put_0 2 rfl rfl)
theorem dX7_put_5 : decode cX7_put 5 = .ok (.ifCond .ne 14, 3) := dk_154 0 14 (dk_at dksX7_put_0 5 rfl rfl)
theorem dX7_put_8 : decode cX7_put 8 = .ok (.iload_n 2, 1) := dk_28 (dk_at dksX7_put_0 8 rfl rfl)
theorem dX7_put_9 : decode cX7_put 9 = .ok (.iconst 0, 1) := dk_3 (dk_at dksX7_put_0 9 rfl rfl)
theorem dX7_put_10 : decode cX7_put 10 = .ok (.sipush 9999, 3) := dk_17 39 15 (dk_at dksX7_put_0 10 rfl rfl)
theorem dX7_put_13 : decode cX7_put 13 = .ok (.invokestatic 55, 3) := dk_184 0 55 (dk_at dksX7_put_0 13 rfl rfl)
theorem dX7_put_16 : decode cX7_put 16 = .ok (.ifCond .ne 7, 3) := dk_154 0 7 (dk_at dksX7_put_0 16 rfl rfl)
theorem dX7_put_19 : decode cX7_put 19 = .ok (.iconst 1, 1) := dk_4 (dk_at dksX7_put_0 19 rfl rfl)
theorem dX7_put_20 : decode cX7_put 20 = .ok (.goto 4, 3) := dk_167 0 4 (dk_at dksX7_put_0 20 rfl rfl)
theorem dX7_put_23 : decode cX7_put 23 = .ok (.iconst 0, 1) := dk_3 (dk_at dksX7_put_0 23 rfl rfl)
theorem dX7_put_24 : decode cX7_put 24 = .ok (.iconst 1, 1) := dk_4 (dk_at dksX7_put_1 0 rfl rfl)
theorem dX7_put_25 : decode cX7_put 25 = .ok (.invokevirtual 105, 3) := dk_182 0 105 (dk_at dksX7_put_1 1 rfl rfl)
theorem dX7_put_28 : decode cX7_put 28 = .ok (.ifCond .ne 40, 3) := dk_154 0 40 (dk_at dksX7_put_1 4 rfl rfl)
theorem dX7_put_31 : decode cX7_put 31 = .ok (.aload_n 0, 1) := dk_42 (dk_at dksX7_put_1 7 rfl rfl)
theorem dX7_put_32 : decode cX7_put 32 = .ok (.aload_n 0, 1) := dk_42 (dk_at dksX7_put_1 8 rfl rfl)
theorem dX7_put_33 : decode cX7_put 33 = .ok (.getfield 12, 3) := dk_180 0 12 (dk_at dksX7_put_1 9 rfl rfl)
theorem dX7_put_36 : decode cX7_put 36 = .ok (.invokevirtual 108, 3) := dk_182 0 108 (dk_at dksX7_put_1 12 rfl rfl)
theorem dX7_put_39 : decode cX7_put 39 = .ok (.bipush 60, 2) := dk_16 60 (dk_at dksX7_put_1 15 rfl rfl)
theorem dX7_put_41 : decode cX7_put 41 = .ok (.if_icmp .ne 19, 3) := dk_160 0 19 (dk_at dksX7_put_1 17 rfl rfl)
theorem dX7_put_44 : decode cX7_put 44 = .ok (.aload_n 0, 1) := dk_42 (dk_at dksX7_put_1 20 rfl rfl)
theorem dX7_put_45 : decode cX7_put 45 = .ok (.getfield 12, 3) := dk_180 0 12 (dk_at dksX7_put_1 21 rfl rfl)
theorem dX7_put_48 : decode cX7_put 48 = .ok (.iload_n 1, 1) := dk_27 (dk_at dksX7_put_2 0 rfl rfl)
theorem dX7_put_49 : decode cX7_put 49 = .ok (.invokevirtual 124, 3) := dk_182 0 124 (dk_at dksX7_put_2 1 rfl rfl)
theorem dX7_put_52 : decode cX7_put 52 = .ok (.iconst (-1), 1) := dk_2 (dk_at dksX7_put_2 4 rfl rfl)
theorem dX7_put_53 : decode cX7_put 53 = .ok (.if_icmp .ne 7, 3) := dk_160 0 7 (dk_at dksX7_put_2 5 rfl rfl)
theorem dX7_put_56 : decode cX7_put 56 = .ok (.iconst 1, 1) := dk_4 (dk_at dksX7_put_2 8 rfl rfl)
theorem dX7_put_57 : decode cX7_put 57 = .ok (.goto 4, 3) := dk_167 0 4 (dk_at dksX7_put_2 9 rfl rfl)
theorem dX7_put_60 : decode cX7_put 60 = .ok (.iconst 0, 1) := dk_3 (dk_at dksX7_put_2 12 rfl rfl)
theorem dX7_put_61 : decode cX7_put 61 = .ok (.iconst 2, 1) := dk_5 (dk_at dksX7_put_2 13 rfl rfl)
theorem dX7_put_62 : decode cX7_put 62 = .ok (.invokevirtual 51, 3) := dk_182 0 51 (dk_at dksX7_put_2 14 rfl rfl)
theorem dX7_put_65 : decode cX7_put 65 = .ok (.ifCond .eq 5, 3) := dk_153 0 5 (dk_at dksX7_put_2 17 rfl rfl)
theorem dX7_put_68 : decode cX7_put 68 = .ok (.iconst 0, 1) := dk_3 (dk_at dksX7_put_2 20 rfl rfl)
theorem dX7_put_69 : decode cX7_put 69 = .ok (.ireturn, 1) := dk_172 (dk_at dksX7_put_2 21 rfl rfl)
theorem dX7_put_70 : decode cX7_put 70 = .ok (.aload_n 0, 1) := dk_42 (dk_at dksX7_put_2 22 rfl rfl)
theorem dX7_put_71 : decode cX7_put 71 = .ok (.iconst 0, 1) := dk_3 (dk_at dksX7_put_2 23 rfl rfl)
theorem dX7_put_72 : decode cX7_put 72 = .ok (.iload_n 1, 1) := dk_27 (dk_at dksX7_put_3 0 rfl rfl)
theorem dX7_put_73 : decode cX7_put 73 = .ok (.iload_n 2, 1) := dk_28 (dk_at dksX7_put_3 1 rfl rfl)
theorem dX7_put_74 : decode cX7_put 74 = .ok (.invokevirtual 117, 3) := dk_182 0 117 (dk_at dksX7_put_3 2 rfl rfl)
theorem dX7_put_77 : decode cX7_put 77 = .ok (.ireturn, 1) := dk_172 (dk_at dksX7_put_3 5 rfl rfl)
abbrev cX7_isNoKey : ByteArray := prog_15_method_14_code
def yX7_isNoKey : MethodName := ⟨RX7, "isNoKey", "(I)Z"⟩
def dkwX7_isNoKey_0 : List UInt8 := [26, 3, 17, 39, 15, 184, 0, 55, 154, 0, 7, 4, 167, 0, 4, 3, 172]
abbrev dktX7_isNoKey_0 : List UInt8 := dkwX7_isNoKey_0 ++ []
theorem dksX7_isNoKey_0 : cX7_isNoKey.data.toList.drop 0 = dktX7_isNoKey_0 := by decide +kernel
theorem dX7_isNoKey_0 : decode cX7_isNoKey 0 = .ok (.iload_n 0, 1) := dk_26 (dk_at dksX7_isNoKey_0 0 rfl rfl)
theorem dX7_isNoKey_1 : decode cX7_isNoKey 1 = .ok (.iconst 0, 1) := dk_3 (dk_at dksX7_isNoKey_0 1 rfl rfl)
theorem dX7_isNoKey_2 : decode cX7_isNoKey 2 = .ok (.sipush 9999, 3) := dk_17 39 15 (dk_at dksX7_isNoKey_0 2 rfl rfl)
theorem dX7_isNoKey_5 : decode cX7_isNoKey 5 = .ok (.invokestatic 55, 3) := dk_184 0 55 (dk_at dksX7_isNoKey_0 5 rfl rfl)
theorem dX7_isNoKey_8 : decode cX7_isNoKey 8 = .ok (.ifCond .ne 7, 3) := dk_154 0 7 (dk_at dksX7_isNoKey_0 8 rfl rfl)
theorem dX7_isNoKey_11 : decode cX7_isNoKey 11 = .ok (.iconst 1, 1) := dk_4 (dk_at dksX7_isNoKey_0 11 rfl rfl)
theorem dX7_isNoKey_12 : decode cX7_isNoKey 12 = .ok (.goto 4, 3) := dk_167 0 4 (dk_at dksX7_isNoKey_0 12 rfl rfl)
theorem dX7_isNoKey_15 : decode cX7_isNoKey 15 = .ok (.iconst 0, 1) := dk_3 (dk_at dksX7_isNoKey_0 15 rfl rfl)
theorem dX7_isNoKey_16 : decode cX7_isNoKey 16 = .ok (.ireturn, 1) := dk_172 (dk_at dksX7_isNoKey_0 16 rfl rfl)
abbrev cX7_drop : ByteArray := prog_15_method_23_code
def yX7_drop : MethodName := ⟨RX7, "drop", "(I)I"⟩
def dkwX7_drop_1 : List UInt8 := [160, 0, 7, 2, 167, 0, 10, 42, 4, 27, 3, 182, 0, 117, 172]
abbrev dktX7_drop_1 : List UInt8 := dkwX7_drop_1 ++ []
def dkwX7_drop_0 : List UInt8 := [42, 27, 184, 0, 120, 4, 182, 0, 105, 153, 0, 5, 3, 172, 42, 180, 0, 12, 27, 182, 0, 124, 2]
abbrev dktX7_drop_0 : List UInt8 := dkwX7_drop_0 ++ dktX7_drop_1
theorem dksX7_drop_0 : cX7_drop.data.toList.drop 0 = dktX7_drop_0 := by decide +kernel
theorem dksX7_drop_1 : cX7_drop.data.toList.drop 23 = dktX7_drop_1 := dk_seg dksX7_drop_0 23 rfl rfl
theorem dX7_drop_0 : decode cX7_drop 0 = .ok (.aload_n 0, 1) := dk_42 (dk_at dksX7_drop_0 0 rfl rfl)
theorem dX7_drop_1 : decode cX7_drop 1 = .ok (.iload_n 1, 1) := dk_27 (dk_at dksX7_drop_0 1 rfl rfl)
theorem dX7_drop_2 : decode cX7_drop 2 = .ok (.invokestatic 120, 3) := dk_184 0 120 (dk_at dksX7_drop_0 2 rfl rfl)
theorem dX7_drop_5 : decode cX7_drop 5 = .ok (.iconst 1, 1) := dk_4 (dk_at dksX7_drop_0 5 rfl rfl)
theorem dX7_drop_6 : decode cX7_drop 6 = .ok (.invokevirtual 105, 3) := dk_182 0 105 (dk_at dksX7_drop_0 6 rfl rfl)
theorem dX7_drop_9 : decode cX7_drop 9 = .ok (.ifCond .eq 5, 3) := dk_153 0 5 (dk_at dksX7_drop_0 9 rfl rfl)
theorem dX7_drop_12 : decode cX7_drop 12 = .ok (.iconst 0, 1) := dk_3 (dk_at dksX7_drop_0 12 rfl rfl)
theorem dX7_drop_13 : decode cX7_drop 13 = .ok (.ireturn, 1) := dk_172 (dk_at dksX7_drop_0 13 rfl rfl)
theorem dX7_drop_14 : decode cX7_drop 14 = .ok (.aload_n 0, 1) := dk_42 (dk_at dksX7_drop_0 14 rfl rfl)
theorem dX7_drop_15 : decode cX7_drop 15 = .ok (.getfield 12, 3) := dk_180 0 12 (dk_at dksX7_drop_0 15 rfl rfl)
theorem dX7_drop_18 : decode cX7_drop 18 = .ok (.iload_n 1, 1) := dk_27 (dk_at dksX7_drop_0 18 rfl rfl)
theorem dX7_drop_19 : decode cX7_drop 19 = .ok (.invokevirtual 124, 3) := dk_182 0 124 (dk_at dksX7_drop_0 19 rfl rfl)
theorem dX7_drop_22 : decode cX7_drop 22 = .ok (.iconst (-1), 1) := dk_2 (dk_at dksX7_drop_0 22 rfl rfl)
theorem dX7_drop_23 : decode cX7_drop 23 = .ok (.if_icmp .ne 7, 3) := dk_160 0 7 (dk_at dksX7_drop_1 0 rfl rfl)
theorem dX7_drop_26 : decode cX7_drop 26 = .ok (.iconst (-1), 1) := dk_2 (dk_at dksX7_drop_1 3 rfl rfl)
theorem dX7_drop_27 : decode cX7_drop 27 = .ok (.goto 10, 3) := dk_167 0 10 (dk_at dksX7_drop_1 4 rfl rfl)
theorem dX7_drop_30 : decode cX7_drop 30 = .ok (.aload_n 0, 1) := dk_42 (dk_at dksX7_drop_1 7 rfl rfl)
theorem dX7_drop_31 : decode cX7_drop 31 = .ok (.iconst 1, 1) := dk_4 (dk_at dksX7_drop_1 8 rfl rfl)
theorem dX7_drop_32 : decode cX7_drop 32 = .ok (.iload_n 1, 1) := dk_27 (dk_at dksX7_drop_1 9 rfl rfl)
theorem dX7_drop_33 : decode cX7_drop 33 = .ok (.iconst 0, 1) := dk_3 (dk_at dksX7_drop_1 10 rfl rfl)
theorem dX7_drop_34 : decode cX7_drop 34 = .ok (.invokevirtual 117, 3) := dk_182 0 117 (dk_at dksX7_drop_1 11 rfl rfl)
theorem dX7_drop_37 : decode cX7_drop 37 = .ok (.ireturn, 1) := dk_172 (dk_at dksX7_drop_1 14 rfl rfl)
abbrev cX7_rehash : ByteArray := prog_15_method_24_code
def yX7_rehash : MethodName := ⟨RX7, "rehash", "(II)I"⟩
def dkwX7_rehash_2 : List UInt8 := [28, 182, 0, 117, 172]
abbrev dktX7_rehash_2 : List UInt8 := dkwX7_rehash_2 ++ []
def dkwX7_rehash_1 : List UInt8 := [167, 0, 4, 3, 4, 182, 0, 105, 153, 0, 5, 3, 172, 42, 180, 0, 32, 2, 184, 0, 111, 42, 5, 27]
abbrev dktX7_rehash_1 : List UInt8 := dkwX7_rehash_1 ++ dktX7_rehash_2
def dkwX7_rehash_0 : List UInt8 := [42, 27, 3, 17, 3, 255, 184, 0, 55, 153, 0, 13, 28, 3, 16, 9, 184, 0, 55, 154, 0, 7, 4]
abbrev dktX7_rehash_0 : List UInt8 := dkwX7_rehash_0 ++ dktX7_rehash_1
theorem dksX7_rehash_0 : cX7_rehash.data.toList.drop 0 = dktX7_rehash_0 := by decide +kernel
theorem dksX7_rehash_1 : cX7_rehash.data.toList.drop 23 = dktX7_rehash_1 := dk_seg dksX7_rehash_0 23 rfl rfl
theorem dksX7_rehash_2 : cX7_rehash.data.toList.drop 47 = dktX7_rehash_2 := dk_seg dksX7_rehash_1 24 rfl rfl
theorem dX7_rehash_0 : decode cX7_rehash 0 = .ok (.aload_n 0, 1) := dk_42 (dk_at dksX7_rehash_0 0 rfl rfl)
theorem dX7_rehash_1 : decode cX7_rehash 1 = .ok (.iload_n 1, 1) := dk_27 (dk_at dksX7_rehash_0 1 rfl rfl)
theorem dX7_rehash_2 : decode cX7_rehash 2 = .ok (.iconst 0, 1) := dk_3 (dk_at dksX7_rehash_0 2 rfl rfl)
theorem dX7_rehash_3 : decode cX7_rehash 3 = .ok (.sipush 1023, 3) := dk_17 3 255 (dk_at dksX7_rehash_0 3 rfl rfl)
theorem dX7_rehash_6 : decode cX7_rehash 6 = .ok (.invokestatic 55, 3) := dk_184 0 55 (dk_at dksX7_rehash_0 6 rfl rfl)
theorem dX7_rehash_9 : decode cX7_rehash 9 = .ok (.ifCond .eq 13, 3) := dk_153 0 13 (dk_at dksX7_rehash_0 9 rfl rfl)
theorem dX7_rehash_12 : decode cX7_rehash 12 = .ok (.iload_n 2, 1) := dk_28 (dk_at dksX7_rehash_0 12 rfl rfl)
theorem dX7_rehash_13 : decode cX7_rehash 13 = .ok (.iconst 0, 1) := dk_3 (dk_at dksX7_rehash_0 13 rfl rfl)
theorem dX7_rehash_14 : decode cX7_rehash 14 = .ok (.bipush 9, 2) := dk_16 9 (dk_at dksX7_rehash_0 14 rfl rfl)
theorem dX7_rehash_16 : decode cX7_rehash 16 = .ok (.invokestatic 55, 3) := dk_184 0 55 (dk_at dksX7_rehash_0 16 rfl rfl)
theorem dX7_rehash_19 : decode cX7_rehash 19 = .ok (.ifCond .ne 7, 3) := dk_154 0 7 (dk_at dksX7_rehash_0 19 rfl rfl)
theorem dX7_rehash_22 : decode cX7_rehash 22 = .ok (.iconst 1, 1) := dk_4 (dk_at dksX7_rehash_0 22 rfl rfl)
theorem dX7_rehash_23 : decode cX7_rehash 23 = .ok (.goto 4, 3) := dk_167 0 4 (dk_at dksX7_rehash_1 0 rfl rfl)
theorem dX7_rehash_26 : decode cX7_rehash 26 = .ok (.iconst 0, 1) := dk_3 (dk_at dksX7_rehash_1 3 rfl rfl)
theorem dX7_rehash_27 : decode cX7_rehash 27 = .ok (.iconst 1, 1) := dk_4 (dk_at dksX7_rehash_1 4 rfl rfl)
theorem dX7_rehash_28 : decode cX7_rehash 28 = .ok (.invokevirtual 105, 3) := dk_182 0 105 (dk_at dksX7_rehash_1 5 rfl rfl)
theorem dX7_rehash_31 : decode cX7_rehash 31 = .ok (.ifCond .eq 5, 3) := dk_153 0 5 (dk_at dksX7_rehash_1 8 rfl rfl)
theorem dX7_rehash_34 : decode cX7_rehash 34 = .ok (.iconst 0, 1) := dk_3 (dk_at dksX7_rehash_1 11 rfl rfl)
theorem dX7_rehash_35 : decode cX7_rehash 35 = .ok (.ireturn, 1) := dk_172 (dk_at dksX7_rehash_1 12 rfl rfl)
theorem dX7_rehash_36 : decode cX7_rehash 36 = .ok (.aload_n 0, 1) := dk_42 (dk_at dksX7_rehash_1 13 rfl rfl)
theorem dX7_rehash_37 : decode cX7_rehash 37 = .ok (.getfield 32, 3) := dk_180 0 32 (dk_at dksX7_rehash_1 14 rfl rfl)
theorem dX7_rehash_40 : decode cX7_rehash 40 = .ok (.iconst (-1), 1) := dk_2 (dk_at dksX7_rehash_1 17 rfl rfl)
theorem dX7_rehash_41 : decode cX7_rehash 41 = .ok (.invokestatic 111, 3) := dk_184 0 111 (dk_at dksX7_rehash_1 18 rfl rfl)
theorem dX7_rehash_44 : decode cX7_rehash 44 = .ok (.aload_n 0, 1) := dk_42 (dk_at dksX7_rehash_1 21 rfl rfl)
theorem dX7_rehash_45 : decode cX7_rehash 45 = .ok (.iconst 2, 1) := dk_5 (dk_at dksX7_rehash_1 22 rfl rfl)
theorem dX7_rehash_46 : decode cX7_rehash 46 = .ok (.iload_n 1, 1) := dk_27 (dk_at dksX7_rehash_1 23 rfl rfl)
theorem dX7_rehash_47 : decode cX7_rehash 47 = .ok (.iload_n 2, 1) := dk_28 (dk_at dksX7_rehash_2 0 rfl rfl)
theorem dX7_rehash_48 : decode cX7_rehash 48 = .ok (.invokevirtual 117, 3) := dk_182 0 117 (dk_at dksX7_rehash_2 1 rfl rfl)
theorem dX7_rehash_51 : decode cX7_rehash 51 = .ok (.ireturn, 1) := dk_172 (dk_at dksX7_rehash_2 4 rfl rfl)
abbrev cX7_find : ByteArray := prog_15_method_25_code
def yX7_find : MethodName := ⟨RX7, "find", "(I)I"⟩
def dkwX7_find_4 : List UInt8 := [3, 184, 0, 151, 96, 181, 0, 148, 42, 180, 0, 12, 27, 182, 0, 124, 172]
abbrev dktX7_find_4 : List UInt8 := dkwX7_find_4 ++ []
def dkwX7_find_3 : List UInt8 := [180, 0, 145, 108, 4, 96, 96, 181, 0, 139, 42, 89, 180, 0, 148, 29, 2, 160, 0, 7, 4, 167, 0, 4]
abbrev dktX7_find_3 : List UInt8 := dkwX7_find_3 ++ dktX7_find_4
def dkwX7_find_2 : List UInt8 := [180, 0, 139, 29, 2, 160, 0, 13, 44, 180, 0, 142, 182, 0, 85, 167, 0, 14, 29, 42, 180, 0, 12]
abbrev dktX7_find_2 : List UInt8 := dkwX7_find_2 ++ dktX7_find_3
def dkwX7_find_1 : List UInt8 := [154, 0, 5, 2, 172, 42, 180, 0, 12, 27, 182, 0, 130, 77, 44, 27, 182, 0, 134, 62, 42, 89]
abbrev dktX7_find_1 : List UInt8 := dkwX7_find_1 ++ dktX7_find_2
def dkwX7_find_0 : List UInt8 := [42, 27, 184, 0, 120, 4, 182, 0, 105, 153, 0, 5, 3, 172, 42, 180, 0, 12, 27, 182, 0, 127]
abbrev dktX7_find_0 : List UInt8 := dkwX7_find_0 ++ dktX7_find_1
theorem dksX7_find_0 : cX7_find.data.toList.drop 0 = dktX7_find_0 := by decide +kernel
theorem dksX7_find_1 : cX7_find.data.toList.drop 22 = dktX7_find_1 := dk_seg dksX7_find_0 22 rfl rfl
theorem dksX7_find_2 : cX7_find.data.toList.drop 44 = dktX7_find_2 := dk_seg dksX7_find_1 22 rfl rfl
theorem dksX7_find_3 : cX7_find.data.toList.drop 67 = dktX7_find_3 := dk_seg dksX7_find_2 23 rfl rfl
theorem dksX7_find_4 : cX7_find.data.toList.drop 91 = dktX7_find_4 := dk_seg dksX7_find_3 24 rfl rfl
theorem dX7_find_0 : decode cX7_find 0 = .ok (.aload_n 0, 1) := dk_42 (dk_at dksX7_find_0 0 rfl rfl)
theorem dX7_find_1 : decode cX7_find 1 = .ok (.iload_n 1, 1) := dk_27 (dk_at dksX7_find_0 1 rfl rfl)
theorem dX7_find_2 : decode cX7_find 2 = .ok (.invokestatic 120, 3) := dk_184 0 120 (dk_at dksX7_find_0 2 rfl rfl)
theorem dX7_find_5 : decode cX7_find 5 = .ok (.iconst 1, 1) := dk_4 (dk_at dksX7_find_0 5 rfl rfl)
theorem dX7_find_6 : decode cX7_find 6 = .ok (.invokevirtual 105, 3) := dk_182 0 105 (dk_at dksX7_find_0 6 rfl rfl)
theorem dX7_find_9 : decode cX7_find 9 = .ok (.ifCond .eq 5, 3) := dk_153 0 5 (dk_at dksX7_find_0 9 rfl rfl)
theorem dX7_find_12 : decode cX7_find 12 = .ok (.iconst 0, 1) := dk_3 (dk_at dksX7_find_0 12 rfl rfl)
theorem dX7_find_13 : decode cX7_find 13 = .ok (.ireturn, 1) := dk_172 (dk_at dksX7_find_0 13 rfl rfl)
theorem dX7_find_14 : decode cX7_find 14 = .ok (.aload_n 0, 1) := dk_42 (dk_at dksX7_find_0 14 rfl rfl)
theorem dX7_find_15 : decode cX7_find 15 = .ok (.getfield 12, 3) := dk_180 0 12 (dk_at dksX7_find_0 15 rfl rfl)
theorem dX7_find_18 : decode cX7_find 18 = .ok (.iload_n 1, 1) := dk_27 (dk_at dksX7_find_0 18 rfl rfl)
theorem dX7_find_19 : decode cX7_find 19 = .ok (.invokevirtual 127, 3) := dk_182 0 127 (dk_at dksX7_find_0 19 rfl rfl)
theorem dX7_find_22 : decode cX7_find 22 = .ok (.ifCond .ne 5, 3) := dk_154 0 5 (dk_at dksX7_find_1 0 rfl rfl)
theorem dX7_find_25 : decode cX7_find 25 = .ok (.iconst (-1), 1) := dk_2 (dk_at dksX7_find_1 3 rfl rfl)
theorem dX7_find_26 : decode cX7_find 26 = .ok (.ireturn, 1) := dk_172 (dk_at dksX7_find_1 4 rfl rfl)
theorem dX7_find_27 : decode cX7_find 27 = .ok (.aload_n 0, 1) := dk_42 (dk_at dksX7_find_1 5 rfl rfl)
theorem dX7_find_28 : decode cX7_find 28 = .ok (.getfield 12, 3) := dk_180 0 12 (dk_at dksX7_find_1 6 rfl rfl)
theorem dX7_find_31 : decode cX7_find 31 = .ok (.iload_n 1, 1) := dk_27 (dk_at dksX7_find_1 9 rfl rfl)
theorem dX7_find_32 : decode cX7_find 32 = .ok (.invokevirtual 130, 3) := dk_182 0 130 (dk_at dksX7_find_1 10 rfl rfl)
theorem dX7_find_35 : decode cX7_find 35 = .ok (.astore_n 2, 1) := dk_77 (dk_at dksX7_find_1 13 rfl rfl)
theorem dX7_find_36 : decode cX7_find 36 = .ok (.aload_n 2, 1) := dk_44 (dk_at dksX7_find_1 14 rfl rfl)
theorem dX7_find_37 : decode cX7_find 37 = .ok (.iload_n 1, 1) := dk_27 (dk_at dksX7_find_1 15 rfl rfl)
theorem dX7_find_38 : decode cX7_find 38 = .ok (.invokevirtual 134, 3) := dk_182 0 134 (dk_at dksX7_find_1 16 rfl rfl)
theorem dX7_find_41 : decode cX7_find 41 = .ok (.istore_n 3, 1) := dk_62 (dk_at dksX7_find_1 19 rfl rfl)
theorem dX7_find_42 : decode cX7_find 42 = .ok (.aload_n 0, 1) := dk_42 (dk_at dksX7_find_1 20 rfl rfl)
theorem dX7_find_43 : decode cX7_find 43 = .ok (.dup, 1) := dk_89 (dk_at dksX7_find_1 21 rfl rfl)
theorem dX7_find_44 : decode cX7_find 44 = .ok (.getfield 139, 3) := dk_180 0 139 (dk_at dksX7_find_2 0 rfl rfl)
theorem dX7_find_47 : decode cX7_find 47 = .ok (.iload_n 3, 1) := dk_29 (dk_at dksX7_find_2 3 rfl rfl)
theorem dX7_find_48 : decode cX7_find 48 = .ok (.iconst (-1), 1) := dk_2 (dk_at dksX7_find_2 4 rfl rfl)
theorem dX7_find_49 : decode cX7_find 49 = .ok (.if_icmp .ne 13, 3) := dk_160 0 13 (dk_at dksX7_find_2 5 rfl rfl)
theorem dX7_find_52 : decode cX7_find 52 = .ok (.aload_n 2, 1) := dk_44 (dk_at dksX7_find_2 8 rfl rfl)
theorem dX7_find_53 : decode cX7_find 53 = .ok (.getfield 142, 3) := dk_180 0 142 (dk_at dksX7_find_2 9 rfl rfl)
theorem dX7_find_56 : decode cX7_find 56 = .ok (.invokevirtual 85, 3) := dk_182 0 85 (dk_at dksX7_find_2 12 rfl rfl)
theorem dX7_find_59 : decode cX7_find 59 = .ok (.goto 14, 3) := dk_167 0 14 (dk_at dksX7_find_2 15 rfl rfl)
theorem dX7_find_62 : decode cX7_find 62 = .ok (.iload_n 3, 1) := dk_29 (dk_at dksX7_find_2 18 rfl rfl)
theorem dX7_find_63 : decode cX7_find 63 = .ok (.aload_n 0, 1) := dk_42 (dk_at dksX7_find_2 19 rfl rfl)
theorem dX7_find_64 : decode cX7_find 64 = .ok (.getfield 12, 3) := dk_180 0 12 (dk_at dksX7_find_2 20 rfl rfl)
theorem dX7_find_67 : decode cX7_find 67 = .ok (.getfield 145, 3) := dk_180 0 145 (dk_at dksX7_find_3 0 rfl rfl)
theorem dX7_find_70 : decode cX7_find 70 = .ok (.idiv, 1) := dk_108 (dk_at dksX7_find_3 3 rfl rfl)
theorem dX7_find_71 : decode cX7_find 71 = .ok (.iconst 1, 1) := dk_4 (dk_at dksX7_find_3 4 rfl rfl)
theorem dX7_find_72 : decode cX7_find 72 = .ok (.iadd, 1) := dk_96 (dk_at dksX7_find_3 5 rfl rfl)
theorem dX7_find_73 : decode cX7_find 73 = .ok (.iadd, 1) := dk_96 (dk_at dksX7_find_3 6 rfl rfl)
theorem dX7_find_74 : decode cX7_find 74 = .ok (.putfield 139, 3) := dk_181 0 139 (dk_at dksX7_find_3 7 rfl rfl)
theorem dX7_find_77 : decode cX7_find 77 = .ok (.aload_n 0, 1) := dk_42 (dk_at dksX7_find_3 10 rfl rfl)
theorem dX7_find_78 : decode cX7_find 78 = .ok (.dup, 1) := dk_89 (dk_at dksX7_find_3 11 rfl rfl)
theorem dX7_find_79 : decode cX7_find 79 = .ok (.getfield 148, 3) := dk_180 0 148 (dk_at dksX7_find_3 12 rfl rfl)
theorem dX7_find_82 : decode cX7_find 82 = .ok (.iload_n 3, 1) := dk_29 (dk_at dksX7_find_3 15 rfl rfl)
theorem dX7_find_83 : decode cX7_find 83 = .ok (.iconst (-1), 1) := dk_2 (dk_at dksX7_find_3 16 rfl rfl)
theorem dX7_find_84 : decode cX7_find 84 = .ok (.if_icmp .ne 7, 3) := dk_160 0 7 (dk_at dksX7_find_3 17 rfl rfl)
theorem dX7_find_87 : decode cX7_find 87 = .ok (.iconst 1, 1) := dk_4 (dk_at dksX7_find_3 20 rfl rfl)
theorem dX7_find_88 : decode cX7_find 88 = .ok (.goto 4, 3) := dk_167 0 4 (dk_at dksX7_find_3 21 rfl rfl)
theorem dX7_find_91 : decode cX7_find 91 = .ok (.iconst 0, 1) := dk_3 (dk_at dksX7_find_4 0 rfl rfl)
theorem dX7_find_92 : decode cX7_find 92 = .ok (.invokestatic 151, 3) := dk_184 0 151 (dk_at dksX7_find_4 1 rfl rfl)
theorem dX7_find_95 : decode cX7_find 95 = .ok (.iadd, 1) := dk_96 (dk_at dksX7_find_4 4 rfl rfl)
theorem dX7_find_96 : decode cX7_find 96 = .ok (.putfield 148, 3) := dk_181 0 148 (dk_at dksX7_find_4 5 rfl rfl)
theorem dX7_find_99 : decode cX7_find 99 = .ok (.aload_n 0, 1) := dk_42 (dk_at dksX7_find_4 8 rfl rfl)
theorem dX7_find_100 : decode cX7_find 100 = .ok (.getfield 12, 3) := dk_180 0 12 (dk_at dksX7_find_4 9 rfl rfl)
theorem dX7_find_103 : decode cX7_find 103 = .ok (.iload_n 1, 1) := dk_27 (dk_at dksX7_find_4 12 rfl rfl)
theorem dX7_find_104 : decode cX7_find 104 = .ok (.invokevirtual 124, 3) := dk_182 0 124 (dk_at dksX7_find_4 13 rfl rfl)
theorem dX7_find_107 : decode cX7_find 107 = .ok (.ireturn, 1) := dk_172 (dk_at dksX7_find_4 16 rfl rfl)
abbrev cX7_one : ByteArray := prog_15_method_3_code
def yX7_one : MethodName := ⟨RX7, "one", "(Z)I"⟩
def dkwX7_one_0 : List UInt8 := [26, 153, 0, 7, 4, 167, 0, 4, 3, 172]
abbrev dktX7_one_0 : List UInt8 := dkwX7_one_0 ++ []
theorem dksX7_one_0 : cX7_one.data.toList.drop 0 = dktX7_one_0 := by decide +kernel
theorem dX7_one_0 : decode cX7_one 0 = .ok (.iload_n 0, 1) := dk_26 (dk_at dksX7_one_0 0 rfl rfl)
theorem dX7_one_1 : decode cX7_one 1 = .ok (.ifCond .eq 7, 3) := dk_153 0 7 (dk_at dksX7_one_0 1 rfl rfl)
theorem dX7_one_4 : decode cX7_one 4 = .ok (.iconst 1, 1) := dk_4 (dk_at dksX7_one_0 4 rfl rfl)
theorem dX7_one_5 : decode cX7_one 5 = .ok (.goto 4, 3) := dk_167 0 4 (dk_at dksX7_one_0 5 rfl rfl)
theorem dX7_one_8 : decode cX7_one 8 = .ok (.iconst 0, 1) := dk_3 (dk_at dksX7_one_0 8 rfl rfl)
theorem dX7_one_9 : decode cX7_one 9 = .ok (.ireturn, 1) := dk_172 (dk_at dksX7_one_0 9 rfl rfl)
abbrev cX7_open : ByteArray := prog_15_method_26_code
def yX7_open : MethodName := ⟨RX7, "open", "(I)Z"⟩
def dkwX7_open_1 : List UInt8 := [4, 167, 0, 4, 3, 61, 42, 180, 0, 32, 27, 16, 254, 79, 28, 172]
abbrev dktX7_open_1 : List UInt8 := dkwX7_open_1 ++ []
def dkwX7_open_0 : List UInt8 := [42, 27, 184, 0, 155, 4, 182, 0, 105, 153, 0, 5, 3, 172, 42, 180, 0, 32, 27, 46, 2, 160, 0, 7]
abbrev dktX7_open_0 : List UInt8 := dkwX7_open_0 ++ dktX7_open_1
theorem dksX7_open_0 : cX7_open.data.toList.drop 0 = dktX7_open_0 := by decide +kernel
theorem dksX7_open_1 : cX7_open.data.toList.drop 24 = dktX7_open_1 := dk_seg dksX7_open_0 24 rfl rfl
theorem dX7_open_0 : decode cX7_open 0 = .ok (.aload_n 0, 1) := dk_42 (dk_at dksX7_open_0 0 rfl rfl)
theorem dX7_open_1 : decode cX7_open 1 = .ok (.iload_n 1, 1) := dk_27 (dk_at dksX7_open_0 1 rfl rfl)
theorem dX7_open_2 : decode cX7_open 2 = .ok (.invokestatic 155, 3) := dk_184 0 155 (dk_at dksX7_open_0 2 rfl rfl)
theorem dX7_open_5 : decode cX7_open 5 = .ok (.iconst 1, 1) := dk_4 (dk_at dksX7_open_0 5 rfl rfl)
theorem dX7_open_6 : decode cX7_open 6 = .ok (.invokevirtual 105, 3) := dk_182 0 105 (dk_at dksX7_open_0 6 rfl rfl)
theorem dX7_open_9 : decode cX7_open 9 = .ok (.ifCond .eq 5, 3) := dk_153 0 5 (dk_at dksX7_open_0 9 rfl rfl)
theorem dX7_open_12 : decode cX7_open 12 = .ok (.iconst 0, 1) := dk_3 (dk_at dksX7_open_0 12 rfl rfl)
theorem dX7_open_13 : decode cX7_open 13 = .ok (.ireturn, 1) := dk_172 (dk_at dksX7_open_0 13 rfl rfl)
theorem dX7_open_14 : decode cX7_open 14 = .ok (.aload_n 0, 1) := dk_42 (dk_at dksX7_open_0 14 rfl rfl)
theorem dX7_open_15 : decode cX7_open 15 = .ok (.getfield 32, 3) := dk_180 0 32 (dk_at dksX7_open_0 15 rfl rfl)
theorem dX7_open_18 : decode cX7_open 18 = .ok (.iload_n 1, 1) := dk_27 (dk_at dksX7_open_0 18 rfl rfl)
theorem dX7_open_19 : decode cX7_open 19 = .ok (.iaload, 1) := dk_46 (dk_at dksX7_open_0 19 rfl rfl)
theorem dX7_open_20 : decode cX7_open 20 = .ok (.iconst (-1), 1) := dk_2 (dk_at dksX7_open_0 20 rfl rfl)
theorem dX7_open_21 : decode cX7_open 21 = .ok (.if_icmp .ne 7, 3) := dk_160 0 7 (dk_at dksX7_open_0 21 rfl rfl)
theorem dX7_open_24 : decode cX7_open 24 = .ok (.iconst 1, 1) := dk_4 (dk_at dksX7_open_1 0 rfl rfl)
theorem dX7_open_25 : decode cX7_open 25 = .ok (.goto 4, 3) := dk_167 0 4 (dk_at dksX7_open_1 1 rfl rfl)
theorem dX7_open_28 : decode cX7_open 28 = .ok (.iconst 0, 1) := dk_3 (dk_at dksX7_open_1 4 rfl rfl)
theorem dX7_open_29 : decode cX7_open 29 = .ok (.istore_n 2, 1) := dk_61 (dk_at dksX7_open_1 5 rfl rfl)
theorem dX7_open_30 : decode cX7_open 30 = .ok (.aload_n 0, 1) := dk_42 (dk_at dksX7_open_1 6 rfl rfl)
theorem dX7_open_31 : decode cX7_open 31 = .ok (.getfield 32, 3) := dk_180 0 32 (dk_at dksX7_open_1 7 rfl rfl)
theorem dX7_open_34 : decode cX7_open 34 = .ok (.iload_n 1, 1) := dk_27 (dk_at dksX7_open_1 10 rfl rfl)
theorem dX7_open_35 : decode cX7_open 35 = .ok (.bipush (-2), 2) := dk_16 254 (dk_at dksX7_open_1 11 rfl rfl)
theorem dX7_open_37 : decode cX7_open 37 = .ok (.iastore, 1) := dk_79 (dk_at dksX7_open_1 13 rfl rfl)
theorem dX7_open_38 : decode cX7_open 38 = .ok (.iload_n 2, 1) := dk_28 (dk_at dksX7_open_1 14 rfl rfl)
theorem dX7_open_39 : decode cX7_open 39 = .ok (.ireturn, 1) := dk_172 (dk_at dksX7_open_1 15 rfl rfl)
abbrev cX7_isNoneOfThree : ByteArray := prog_15_method_15_code
def yX7_isNoneOfThree : MethodName := ⟨RX7, "isNoneOfThree", "(I)Z"⟩
def dkwX7_isNoneOfThree_0 : List UInt8 := [26, 3, 5, 184, 0, 55, 154, 0, 7, 4, 167, 0, 4, 3, 172]
abbrev dktX7_isNoneOfThree_0 : List UInt8 := dkwX7_isNoneOfThree_0 ++ []
theorem dksX7_isNoneOfThree_0 : cX7_isNoneOfThree.data.toList.drop 0 = dktX7_isNoneOfThree_0 := by decide +kernel
theorem dX7_isNoneOfThree_0 : decode cX7_isNoneOfThree 0 = .ok (.iload_n 0, 1) := dk_26 (dk_at dksX7_isNoneOfThree_0 0 rfl rfl)
theorem dX7_isNoneOfThree_1 : decode cX7_isNoneOfThree 1 = .ok (.iconst 0, 1) := dk_3 (dk_at dksX7_isNoneOfThree_0 1 rfl rfl)
theorem dX7_isNoneOfThree_2 : decode cX7_isNoneOfThree 2 = .ok (.iconst 2, 1) := dk_5 (dk_at dksX7_isNoneOfThree_0 2 rfl rfl)
theorem dX7_isNoneOfThree_3 : decode cX7_isNoneOfThree 3 = .ok (.invokestatic 55, 3) := dk_184 0 55 (dk_at dksX7_isNoneOfThree_0 3 rfl rfl)
theorem dX7_isNoneOfThree_6 : decode cX7_isNoneOfThree 6 = .ok (.ifCond .ne 7, 3) := dk_154 0 7 (dk_at dksX7_isNoneOfThree_0 6 rfl rfl)
theorem dX7_isNoneOfThree_9 : decode cX7_isNoneOfThree 9 = .ok (.iconst 1, 1) := dk_4 (dk_at dksX7_isNoneOfThree_0 9 rfl rfl)
theorem dX7_isNoneOfThree_10 : decode cX7_isNoneOfThree 10 = .ok (.goto 4, 3) := dk_167 0 4 (dk_at dksX7_isNoneOfThree_0 10 rfl rfl)
theorem dX7_isNoneOfThree_13 : decode cX7_isNoneOfThree 13 = .ok (.iconst 0, 1) := dk_3 (dk_at dksX7_isNoneOfThree_0 13 rfl rfl)
theorem dX7_isNoneOfThree_14 : decode cX7_isNoneOfThree 14 = .ok (.ireturn, 1) := dk_172 (dk_at dksX7_isNoneOfThree_0 14 rfl rfl)
abbrev cX7_next : ByteArray := prog_15_method_28_code
def yX7_next : MethodName := ⟨RX7, "next", "(I)I"⟩
def dkwX7_next_2 : List UInt8 := [28, 2, 159, 0, 10, 42, 180, 0, 32, 27, 28, 79, 28, 172]
abbrev dktX7_next_2 : List UInt8 := dkwX7_next_2 ++ []
def dkwX7_next_1 : List UInt8 := [167, 0, 4, 3, 5, 182, 0, 51, 153, 0, 5, 3, 172, 42, 42, 180, 0, 32, 27, 46, 182, 0, 165, 61]
abbrev dktX7_next_1 : List UInt8 := dkwX7_next_1 ++ dktX7_next_2
def dkwX7_next_0 : List UInt8 := [42, 27, 184, 0, 155, 4, 182, 0, 105, 154, 0, 26, 42, 42, 180, 0, 32, 27, 46, 2, 160, 0, 7, 4]
abbrev dktX7_next_0 : List UInt8 := dkwX7_next_0 ++ dktX7_next_1
theorem dksX7_next_0 : cX7_next.data.toList.drop 0 = dktX7_next_0 := by decide +kernel
theorem dksX7_next_1 : cX7_next.data.toList.drop 24 = dktX7_next_1 := dk_seg dksX7_next_0 24 rfl rfl
theorem dksX7_next_2 : cX7_next.data.toList.drop 48 = dktX7_next_2 := dk_seg dksX7_next_1 24 rfl rfl
theorem dX7_next_0 : decode cX7_next 0 = .ok (.aload_n 0, 1) := dk_42 (dk_at dksX7_next_0 0 rfl rfl)
theorem dX7_next_1 : decode cX7_next 1 = .ok (.iload_n 1, 1) := dk_27 (dk_at dksX7_next_0 1 rfl rfl)
theorem dX7_next_2 : decode cX7_next 2 = .ok (.invokestatic 155, 3) := dk_184 0 155 (dk_at dksX7_next_0 2 rfl rfl)
theorem dX7_next_5 : decode cX7_next 5 = .ok (.iconst 1, 1) := dk_4 (dk_at dksX7_next_0 5 rfl rfl)
theorem dX7_next_6 : decode cX7_next 6 = .ok (.invokevirtual 105, 3) := dk_182 0 105 (dk_at dksX7_next_0 6 rfl rfl)
theorem dX7_next_9 : decode cX7_next 9 = .ok (.ifCond .ne 26, 3) := dk_154 0 26 (dk_at dksX7_next_0 9 rfl rfl)
theorem dX7_next_12 : decode cX7_next 12 = .ok (.aload_n 0, 1) := dk_42 (dk_at dksX7_next_0 12 rfl rfl)
theorem dX7_next_13 : decode cX7_next 13 = .ok (.aload_n 0, 1) := dk_42 (dk_at dksX7_next_0 13 rfl rfl)
theorem dX7_next_14 : decode cX7_next 14 = .ok (.getfield 32, 3) := dk_180 0 32 (dk_at dksX7_next_0 14 rfl rfl)
theorem dX7_next_17 : decode cX7_next 17 = .ok (.iload_n 1, 1) := dk_27 (dk_at dksX7_next_0 17 rfl rfl)
theorem dX7_next_18 : decode cX7_next 18 = .ok (.iaload, 1) := dk_46 (dk_at dksX7_next_0 18 rfl rfl)
theorem dX7_next_19 : decode cX7_next 19 = .ok (.iconst (-1), 1) := dk_2 (dk_at dksX7_next_0 19 rfl rfl)
theorem dX7_next_20 : decode cX7_next 20 = .ok (.if_icmp .ne 7, 3) := dk_160 0 7 (dk_at dksX7_next_0 20 rfl rfl)
theorem dX7_next_23 : decode cX7_next 23 = .ok (.iconst 1, 1) := dk_4 (dk_at dksX7_next_0 23 rfl rfl)
theorem dX7_next_24 : decode cX7_next 24 = .ok (.goto 4, 3) := dk_167 0 4 (dk_at dksX7_next_1 0 rfl rfl)
theorem dX7_next_27 : decode cX7_next 27 = .ok (.iconst 0, 1) := dk_3 (dk_at dksX7_next_1 3 rfl rfl)
theorem dX7_next_28 : decode cX7_next 28 = .ok (.iconst 2, 1) := dk_5 (dk_at dksX7_next_1 4 rfl rfl)
theorem dX7_next_29 : decode cX7_next 29 = .ok (.invokevirtual 51, 3) := dk_182 0 51 (dk_at dksX7_next_1 5 rfl rfl)
theorem dX7_next_32 : decode cX7_next 32 = .ok (.ifCond .eq 5, 3) := dk_153 0 5 (dk_at dksX7_next_1 8 rfl rfl)
theorem dX7_next_35 : decode cX7_next 35 = .ok (.iconst 0, 1) := dk_3 (dk_at dksX7_next_1 11 rfl rfl)
theorem dX7_next_36 : decode cX7_next 36 = .ok (.ireturn, 1) := dk_172 (dk_at dksX7_next_1 12 rfl rfl)
theorem dX7_next_37 : decode cX7_next 37 = .ok (.aload_n 0, 1) := dk_42 (dk_at dksX7_next_1 13 rfl rfl)
theorem dX7_next_38 : decode cX7_next 38 = .ok (.aload_n 0, 1) := dk_42 (dk_at dksX7_next_1 14 rfl rfl)
theorem dX7_next_39 : decode cX7_next 39 = .ok (.getfield 32, 3) := dk_180 0 32 (dk_at dksX7_next_1 15 rfl rfl)
theorem dX7_next_42 : decode cX7_next 42 = .ok (.iload_n 1, 1) := dk_27 (dk_at dksX7_next_1 18 rfl rfl)
theorem dX7_next_43 : decode cX7_next 43 = .ok (.iaload, 1) := dk_46 (dk_at dksX7_next_1 19 rfl rfl)
theorem dX7_next_44 : decode cX7_next 44 = .ok (.invokevirtual 165, 3) := dk_182 0 165 (dk_at dksX7_next_1 20 rfl rfl)
theorem dX7_next_47 : decode cX7_next 47 = .ok (.istore_n 2, 1) := dk_61 (dk_at dksX7_next_1 23 rfl rfl)
theorem dX7_next_48 : decode cX7_next 48 = .ok (.iload_n 2, 1) := dk_28 (dk_at dksX7_next_2 0 rfl rfl)
theorem dX7_next_49 : decode cX7_next 49 = .ok (.iconst (-1), 1) := dk_2 (dk_at dksX7_next_2 1 rfl rfl)
theorem dX7_next_50 : decode cX7_next 50 = .ok (.if_icmp .eq 10, 3) := dk_159 0 10 (dk_at dksX7_next_2 2 rfl rfl)
theorem dX7_next_53 : decode cX7_next 53 = .ok (.aload_n 0, 1) := dk_42 (dk_at dksX7_next_2 5 rfl rfl)
theorem dX7_next_54 : decode cX7_next 54 = .ok (.getfield 32, 3) := dk_180 0 32 (dk_at dksX7_next_2 6 rfl rfl)
theorem dX7_next_57 : decode cX7_next 57 = .ok (.iload_n 1, 1) := dk_27 (dk_at dksX7_next_2 9 rfl rfl)
theorem dX7_next_58 : decode cX7_next 58 = .ok (.iload_n 2, 1) := dk_28 (dk_at dksX7_next_2 10 rfl rfl)
theorem dX7_next_59 : decode cX7_next 59 = .ok (.iastore, 1) := dk_79 (dk_at dksX7_next_2 11 rfl rfl)
theorem dX7_next_60 : decode cX7_next 60 = .ok (.iload_n 2, 1) := dk_28 (dk_at dksX7_next_2 12 rfl rfl)
theorem dX7_next_61 : decode cX7_next 61 = .ok (.ireturn, 1) := dk_172 (dk_at dksX7_next_2 13 rfl rfl)
abbrev cX7_behind : ByteArray := prog_15_method_27_code
def yX7_behind : MethodName := ⟨RX7, "behind", "(I)I"⟩
def dkwX7_behind_4 : List UInt8 := [182, 0, 158, 162, 0, 8, 25, 5, 3, 46, 62, 167, 255, 187, 29, 172]
abbrev dktX7_behind_4 : List UInt8 := dkwX7_behind_4 ++ []
def dkwX7_behind_3 : List UInt8 := [164, 0, 35, 29, 2, 159, 0, 25, 42, 180, 0, 12, 25, 5, 3, 46, 182, 0, 158, 42, 180, 0, 12, 29]
abbrev dktX7_behind_3 : List UInt8 := dkwX7_behind_3 ++ dktX7_behind_4
def dkwX7_behind_2 : List UInt8 := [185, 0, 73, 1, 0, 192, 0, 77, 58, 5, 42, 180, 0, 12, 25, 5, 3, 46, 182, 0, 158, 28]
abbrev dktX7_behind_2 : List UInt8 := dkwX7_behind_2 ++ dktX7_behind_3
def dkwX7_behind_1 : List UInt8 := [180, 0, 12, 182, 0, 161, 182, 0, 63, 58, 4, 25, 4, 185, 0, 67, 1, 0, 153, 0, 65, 25, 4]
abbrev dktX7_behind_1 : List UInt8 := dkwX7_behind_1 ++ dktX7_behind_2
def dkwX7_behind_0 : List UInt8 := [27, 16, 254, 160, 0, 7, 2, 167, 0, 11, 42, 180, 0, 12, 27, 182, 0, 158, 61, 2, 62, 42]
abbrev dktX7_behind_0 : List UInt8 := dkwX7_behind_0 ++ dktX7_behind_1
theorem dksX7_behind_0 : cX7_behind.data.toList.drop 0 = dktX7_behind_0 := by decide +kernel
theorem dksX7_behind_1 : cX7_behind.data.toList.drop 22 = dktX7_behind_1 := dk_seg dksX7_behind_0 22 rfl rfl
theorem dksX7_behind_2 : cX7_behind.data.toList.drop 45 = dktX7_behind_2 := dk_seg dksX7_behind_1 23 rfl rfl
theorem dksX7_behind_3 : cX7_behind.data.toList.drop 67 = dktX7_behind_3 := dk_seg dksX7_behind_2 22 rfl rfl
theorem dksX7_behind_4 : cX7_behind.data.toList.drop 91 = dktX7_behind_4 := dk_seg dksX7_behind_3 24 rfl rfl
theorem dX7_behind_0 : decode cX7_behind 0 = .ok (.iload_n 1, 1) := dk_27 (dk_at dksX7_behind_0 0 rfl rfl)
theorem dX7_behind_1 : decode cX7_behind 1 = .ok (.bipush (-2), 2) := dk_16 254 (dk_at dksX7_behind_0 1 rfl rfl)
theorem dX7_behind_3 : decode cX7_behind 3 = .ok (.if_icmp .ne 7, 3) := dk_160 0 7 (dk_at dksX7_behind_0 3 rfl rfl)
theorem dX7_behind_6 : decode cX7_behind 6 = .ok (.iconst (-1), 1) := dk_2 (dk_at dksX7_behind_0 6 rfl rfl)
theorem dX7_behind_7 : decode cX7_behind 7 = .ok (.goto 11, 3) := dk_167 0 11 (dk_at dksX7_behind_0 7 rfl rfl)
theorem dX7_behind_10 : decode cX7_behind 10 = .ok (.aload_n 0, 1) := dk_42 (dk_at dksX7_behind_0 10 rfl rfl)
theorem dX7_behind_11 : decode cX7_behind 11 = .ok (.getfield 12, 3) := dk_180 0 12 (dk_at dksX7_behind_0 11 rfl rfl)
theorem dX7_behind_14 : decode cX7_behind 14 = .ok (.iload_n 1, 1) := dk_27 (dk_at dksX7_behind_0 14 rfl rfl)
theorem dX7_behind_15 : decode cX7_behind 15 = .ok (.invokevirtual 158, 3) := dk_182 0 158 (dk_at dksX7_behind_0 15 rfl rfl)
theorem dX7_behind_18 : decode cX7_behind 18 = .ok (.istore_n 2, 1) := dk_61 (dk_at dksX7_behind_0 18 rfl rfl)
theorem dX7_behind_19 : decode cX7_behind 19 = .ok (.iconst (-1), 1) := dk_2 (dk_at dksX7_behind_0 19 rfl rfl)
theorem dX7_behind_20 : decode cX7_behind 20 = .ok (.istore_n 3, 1) := dk_62 (dk_at dksX7_behind_0 20 rfl rfl)
theorem dX7_behind_21 : decode cX7_behind 21 = .ok (.aload_n 0, 1) := dk_42 (dk_at dksX7_behind_0 21 rfl rfl)
theorem dX7_behind_22 : decode cX7_behind 22 = .ok (.getfield 12, 3) := dk_180 0 12 (dk_at dksX7_behind_1 0 rfl rfl)
theorem dX7_behind_25 : decode cX7_behind 25 = .ok (.invokevirtual 161, 3) := dk_182 0 161 (dk_at dksX7_behind_1 3 rfl rfl)
theorem dX7_behind_28 : decode cX7_behind 28 = .ok (.invokevirtual 63, 3) := dk_182 0 63 (dk_at dksX7_behind_1 6 rfl rfl)
theorem dX7_behind_31 : decode cX7_behind 31 = .ok (.astore 4, 2) := dk_58 4 (dk_at dksX7_behind_1 9 rfl rfl)
theorem dX7_behind_33 : decode cX7_behind 33 = .ok (.aload 4, 2) := dk_25 4 (dk_at dksX7_behind_1 11 rfl rfl)
theorem dX7_behind_35 : decode cX7_behind 35 = .ok (.invokeinterface 67 1, 5) := by decide +kernel
theorem dX7_behind_40 : decode cX7_behind 40 = .ok (.ifCond .eq 65, 3) := dk_153 0 65 (dk_at dksX7_behind_1 18 rfl rfl)
theorem dX7_behind_43 : decode cX7_behind 43 = .ok (.aload 4, 2) := dk_25 4 (dk_at dksX7_behind_1 21 rfl rfl)
theorem dX7_behind_45 : decode cX7_behind 45 = .ok (.invokeinterface 73 1, 5) := by decide +kernel
theorem dX7_behind_50 : decode cX7_behind 50 = .ok (.checkcast 77, 3) := dk_192 0 77 (dk_at dksX7_behind_2 5 rfl rfl)
theorem dX7_behind_53 : decode cX7_behind 53 = .ok (.astore 5, 2) := dk_58 5 (dk_at dksX7_behind_2 8 rfl rfl)
theorem dX7_behind_55 : decode cX7_behind 55 = .ok (.aload_n 0, 1) := dk_42 (dk_at dksX7_behind_2 10 rfl rfl)
theorem dX7_behind_56 : decode cX7_behind 56 = .ok (.getfield 12, 3) := dk_180 0 12 (dk_at dksX7_behind_2 11 rfl rfl)
theorem dX7_behind_59 : decode cX7_behind 59 = .ok (.aload 5, 2) := dk_25 5 (dk_at dksX7_behind_2 14 rfl rfl)
theorem dX7_behind_61 : decode cX7_behind 61 = .ok (.iconst 0, 1) := dk_3 (dk_at dksX7_behind_2 16 rfl rfl)
theorem dX7_behind_62 : decode cX7_behind 62 = .ok (.iaload, 1) := dk_46 (dk_at dksX7_behind_2 17 rfl rfl)
theorem dX7_behind_63 : decode cX7_behind 63 = .ok (.invokevirtual 158, 3) := dk_182 0 158 (dk_at dksX7_behind_2 18 rfl rfl)
theorem dX7_behind_66 : decode cX7_behind 66 = .ok (.iload_n 2, 1) := dk_28 (dk_at dksX7_behind_2 21 rfl rfl)
theorem dX7_behind_67 : decode cX7_behind 67 = .ok (.if_icmp .le 35, 3) := dk_164 0 35 (dk_at dksX7_behind_3 0 rfl rfl)
theorem dX7_behind_70 : decode cX7_behind 70 = .ok (.iload_n 3, 1) := dk_29 (dk_at dksX7_behind_3 3 rfl rfl)
theorem dX7_behind_71 : decode cX7_behind 71 = .ok (.iconst (-1), 1) := dk_2 (dk_at dksX7_behind_3 4 rfl rfl)
theorem dX7_behind_72 : decode cX7_behind 72 = .ok (.if_icmp .eq 25, 3) := dk_159 0 25 (dk_at dksX7_behind_3 5 rfl rfl)
theorem dX7_behind_75 : decode cX7_behind 75 = .ok (.aload_n 0, 1) := dk_42 (dk_at dksX7_behind_3 8 rfl rfl)
theorem dX7_behind_76 : decode cX7_behind 76 = .ok (.getfield 12, 3) := dk_180 0 12 (dk_at dksX7_behind_3 9 rfl rfl)
theorem dX7_behind_79 : decode cX7_behind 79 = .ok (.aload 5, 2) := dk_25 5 (dk_at dksX7_behind_3 12 rfl rfl)
theorem dX7_behind_81 : decode cX7_behind 81 = .ok (.iconst 0, 1) := dk_3 (dk_at dksX7_behind_3 14 rfl rfl)
theorem dX7_behind_82 : decode cX7_behind 82 = .ok (.iaload, 1) := dk_46 (dk_at dksX7_behind_3 15 rfl rfl)
theorem dX7_behind_83 : decode cX7_behind 83 = .ok (.invokevirtual 158, 3) := dk_182 0 158 (dk_at dksX7_behind_3 16 rfl rfl)
theorem dX7_behind_86 : decode cX7_behind 86 = .ok (.aload_n 0, 1) := dk_42 (dk_at dksX7_behind_3 19 rfl rfl)
theorem dX7_behind_87 : decode cX7_behind 87 = .ok (.getfield 12, 3) := dk_180 0 12 (dk_at dksX7_behind_3 20 rfl rfl)
theorem dX7_behind_90 : decode cX7_behind 90 = .ok (.iload_n 3, 1) := dk_29 (dk_at dksX7_behind_3 23 rfl rfl)
theorem dX7_behind_91 : decode cX7_behind 91 = .ok (.invokevirtual 158, 3) := dk_182 0 158 (dk_at dksX7_behind_4 0 rfl rfl)
theorem dX7_behind_94 : decode cX7_behind 94 = .ok (.if_icmp .ge 8, 3) := dk_162 0 8 (dk_at dksX7_behind_4 3 rfl rfl)
theorem dX7_behind_97 : decode cX7_behind 97 = .ok (.aload 5, 2) := dk_25 5 (dk_at dksX7_behind_4 6 rfl rfl)
theorem dX7_behind_99 : decode cX7_behind 99 = .ok (.iconst 0, 1) := dk_3 (dk_at dksX7_behind_4 8 rfl rfl)
theorem dX7_behind_100 : decode cX7_behind 100 = .ok (.iaload, 1) := dk_46 (dk_at dksX7_behind_4 9 rfl rfl)
theorem dX7_behind_101 : decode cX7_behind 101 = .ok (.istore_n 3, 1) := dk_62 (dk_at dksX7_behind_4 10 rfl rfl)
theorem dX7_behind_102 : decode cX7_behind 102 = .ok (.goto (-69), 3) := dk_167 255 187 (dk_at dksX7_behind_4 11 rfl rfl)
theorem dX7_behind_105 : decode cX7_behind 105 = .ok (.iload_n 3, 1) := dk_29 (dk_at dksX7_behind_4 14 rfl rfl)
theorem dX7_behind_106 : decode cX7_behind 106 = .ok (.ireturn, 1) := dk_172 (dk_at dksX7_behind_4 15 rfl rfl)
abbrev cX7_turned : ByteArray := prog_15_method_8_code
def yX7_turned : MethodName := ⟨RX7, "turned", "(I)I"⟩
def dkwX7_turned_1 : List UInt8 := [167, 255, 237, 27, 172]
abbrev dktX7_turned_1 : List UInt8 := dkwX7_turned_1 ++ []
def dkwX7_turned_0 : List UInt8 := [3, 60, 3, 61, 28, 16, 10, 162, 0, 19, 5, 27, 104, 26, 28, 122, 5, 112, 96, 60, 132, 2, 1]
abbrev dktX7_turned_0 : List UInt8 := dkwX7_turned_0 ++ dktX7_turned_1
theorem dksX7_turned_0 : cX7_turned.data.toList.drop 0 = dktX7_turned_0 := by decide +kernel
theorem dksX7_turned_1 : cX7_turned.data.toList.drop 23 = dktX7_turned_1 := dk_seg dksX7_turned_0 23 rfl rfl
theorem dX7_turned_0 : decode cX7_turned 0 = .ok (.iconst 0, 1) := dk_3 (dk_at dksX7_turned_0 0 rfl rfl)
theorem dX7_turned_1 : decode cX7_turned 1 = .ok (.istore_n 1, 1) := dk_60 (dk_at dksX7_turned_0 1 rfl rfl)
theorem dX7_turned_2 : decode cX7_turned 2 = .ok (.iconst 0, 1) := dk_3 (dk_at dksX7_turned_0 2 rfl rfl)
theorem dX7_turned_3 : decode cX7_turned 3 = .ok (.istore_n 2, 1) := dk_61 (dk_at dksX7_turned_0 3 rfl rfl)
theorem dX7_turned_4 : decode cX7_turned 4 = .ok (.iload_n 2, 1) := dk_28 (dk_at dksX7_turned_0 4 rfl rfl)
theorem dX7_turned_5 : decode cX7_turned 5 = .ok (.bipush 10, 2) := dk_16 10 (dk_at dksX7_turned_0 5 rfl rfl)
theorem dX7_turned_7 : decode cX7_turned 7 = .ok (.if_icmp .ge 19, 3) := dk_162 0 19 (dk_at dksX7_turned_0 7 rfl rfl)
theorem dX7_turned_10 : decode cX7_turned 10 = .ok (.iconst 2, 1) := dk_5 (dk_at dksX7_turned_0 10 rfl rfl)
theorem dX7_turned_11 : decode cX7_turned 11 = .ok (.iload_n 1, 1) := dk_27 (dk_at dksX7_turned_0 11 rfl rfl)
theorem dX7_turned_12 : decode cX7_turned 12 = .ok (.imul, 1) := dk_104 (dk_at dksX7_turned_0 12 rfl rfl)
theorem dX7_turned_13 : decode cX7_turned 13 = .ok (.iload_n 0, 1) := dk_26 (dk_at dksX7_turned_0 13 rfl rfl)
theorem dX7_turned_14 : decode cX7_turned 14 = .ok (.iload_n 2, 1) := dk_28 (dk_at dksX7_turned_0 14 rfl rfl)
theorem dX7_turned_15 : decode cX7_turned 15 = .ok (.ishr, 1) := dk_122 (dk_at dksX7_turned_0 15 rfl rfl)
theorem dX7_turned_16 : decode cX7_turned 16 = .ok (.iconst 2, 1) := dk_5 (dk_at dksX7_turned_0 16 rfl rfl)
theorem dX7_turned_17 : decode cX7_turned 17 = .ok (.irem, 1) := dk_112 (dk_at dksX7_turned_0 17 rfl rfl)
theorem dX7_turned_18 : decode cX7_turned 18 = .ok (.iadd, 1) := dk_96 (dk_at dksX7_turned_0 18 rfl rfl)
theorem dX7_turned_19 : decode cX7_turned 19 = .ok (.istore_n 1, 1) := dk_60 (dk_at dksX7_turned_0 19 rfl rfl)
theorem dX7_turned_20 : decode cX7_turned 20 = .ok (.iinc 2 1, 3) := dk_132 2 1 (dk_at dksX7_turned_0 20 rfl rfl)
theorem dX7_turned_23 : decode cX7_turned 23 = .ok (.goto (-19), 3) := dk_167 255 237 (dk_at dksX7_turned_1 0 rfl rfl)
theorem dX7_turned_26 : decode cX7_turned 26 = .ok (.iload_n 1, 1) := dk_27 (dk_at dksX7_turned_1 3 rfl rfl)
theorem dX7_turned_27 : decode cX7_turned 27 = .ok (.ireturn, 1) := dk_172 (dk_at dksX7_turned_1 4 rfl rfl)
abbrev cX7_ask : ByteArray := prog_15_method_30_code
def yX7_ask : MethodName := ⟨RX7, "ask", "(II)I"⟩
def dkwX7_ask_7 : List UInt8 := [27, 21, 7, 21, 4, 96, 4, 96, 5, 21, 7, 104, 184, 0, 184, 79, 21, 5, 172]
abbrev dktX7_ask_7 : List UInt8 := dkwX7_ask_7 ++ []
def dkwX7_ask_6 : List UInt8 := [21, 4, 42, 180, 0, 12, 182, 0, 59, 184, 0, 168, 120, 54, 7, 21, 5, 158, 0, 23, 42, 180, 0, 36]
abbrev dktX7_ask_6 : List UInt8 := dkwX7_ask_6 ++ dktX7_ask_7
def dkwX7_ask_5 : List UInt8 := [182, 0, 59, 184, 0, 178, 54, 7, 167, 255, 227, 42, 89, 180, 0, 181, 21, 5, 96, 181, 0, 181, 4]
abbrev dktX7_ask_5 : List UInt8 := dkwX7_ask_5 ++ dktX7_ask_6
def dkwX7_ask_4 : List UInt8 := [54, 7, 21, 7, 21, 6, 159, 0, 28, 21, 7, 54, 6, 132, 5, 1, 29, 21, 6, 42, 180, 0, 12]
abbrev dktX7_ask_4 : List UInt8 := dkwX7_ask_4 ++ dktX7_ask_5
def dkwX7_ask_3 : List UInt8 := [79, 6, 172, 3, 54, 5, 21, 4, 54, 6, 29, 21, 6, 42, 180, 0, 12, 182, 0, 59, 184, 0, 178]
abbrev dktX7_ask_3 : List UInt8 := dkwX7_ask_3 ++ dktX7_ask_4
def dkwX7_ask_2 : List UInt8 := [21, 4, 42, 180, 0, 12, 182, 0, 59, 161, 0, 18, 42, 180, 0, 36, 27, 42, 180, 0, 12, 182, 0, 59]
abbrev dktX7_ask_2 : List UInt8 := dkwX7_ask_2 ++ dktX7_ask_3
def dkwX7_ask_1 : List UInt8 := [3, 172, 42, 180, 0, 12, 28, 182, 0, 172, 62, 29, 42, 180, 0, 36, 27, 46, 184, 0, 175, 54, 4]
abbrev dktX7_ask_1 : List UInt8 := dkwX7_ask_1 ++ dktX7_ask_2
def dkwX7_ask_0 : List UInt8 := [42, 27, 184, 0, 155, 4, 182, 0, 105, 154, 0, 15, 42, 28, 184, 0, 120, 5, 182, 0, 51, 153, 0, 5]
abbrev dktX7_ask_0 : List UInt8 := dkwX7_ask_0 ++ dktX7_ask_1
theorem dksX7_ask_0 : cX7_ask.data.toList.drop 0 = dktX7_ask_0 := by decide +kernel
theorem dksX7_ask_1 : cX7_ask.data.toList.drop 24 = dktX7_ask_1 := dk_seg dksX7_ask_0 24 rfl rfl
theorem dksX7_ask_2 : cX7_ask.data.toList.drop 47 = dktX7_ask_2 := dk_seg dksX7_ask_1 23 rfl rfl
theorem dksX7_ask_3 : cX7_ask.data.toList.drop 71 = dktX7_ask_3 := dk_seg dksX7_ask_2 24 rfl rfl
theorem dksX7_ask_4 : cX7_ask.data.toList.drop 94 = dktX7_ask_4 := dk_seg dksX7_ask_3 23 rfl rfl
theorem dksX7_ask_5 : cX7_ask.data.toList.drop 117 = dktX7_ask_5 := dk_seg dksX7_ask_4 23 rfl rfl
theorem dksX7_ask_6 : cX7_ask.data.toList.drop 140 = dktX7_ask_6 := dk_seg dksX7_ask_5 23 rfl rfl
theorem dksX7_ask_7 : cX7_ask.data.toList.drop 164 = dktX7_ask_7 := dk_seg dksX7_ask_6 24 rfl rfl
theorem dX7_ask_0 : decode cX7_ask 0 = .ok (.aload_n 0, 1) := dk_42 (dk_at dksX7_ask_0 0 rfl rfl)
theorem dX7_ask_1 : decode cX7_ask 1 = .ok (.iload_n 1, 1) := dk_27 (dk_at dksX7_ask_0 1 rfl rfl)
theorem dX7_ask_2 : decode cX7_ask 2 = .ok (.invokestatic 155, 3) := dk_184 0 155 (dk_at dksX7_ask_0 2 rfl rfl)
theorem dX7_ask_5 : decode cX7_ask 5 = .ok (.iconst 1, 1) := dk_4 (dk_at dksX7_ask_0 5 rfl rfl)
theorem dX7_ask_6 : decode cX7_ask 6 = .ok (.invokevirtual 105, 3) := dk_182 0 105 (dk_at dksX7_ask_0 6 rfl rfl)
theorem dX7_ask_9 : decode cX7_ask 9 = .ok (.ifCond .ne 15, 3) := dk_154 0 15 (dk_at dksX7_ask_0 9 rfl rfl)
theorem dX7_ask_12 : decode cX7_ask 12 = .ok (.aload_n 0, 1) := dk_42 (dk_at dksX7_ask_0 12 rfl rfl)
theorem dX7_ask_13 : decode cX7_ask 13 = .ok (.iload_n 2, 1) := dk_28 (dk_at dksX7_ask_0 13 rfl rfl)
theorem dX7_ask_14 : decode cX7_ask 14 = .ok (.invokestatic 120, 3) := dk_184 0 120 (dk_at dksX7_ask_0 14 rfl rfl)
theorem dX7_ask_17 : decode cX7_ask 17 = .ok (.iconst 2, 1) := dk_5 (dk_at dksX7_ask_0 17 rfl rfl)
theorem dX7_ask_18 : decode cX7_ask 18 = .ok (.invokevirtual 51, 3) := dk_182 0 51 (dk_at dksX7_ask_0 18 rfl rfl)
theorem dX7_ask_21 : decode cX7_ask 21 = .ok (.ifCond .eq 5, 3) := dk_153 0 5 (dk_at dksX7_ask_0 21 rfl rfl)
theorem dX7_ask_24 : decode cX7_ask 24 = .ok (.iconst 0, 1) := dk_3 (dk_at dksX7_ask_1 0 rfl rfl)
theorem dX7_ask_25 : decode cX7_ask 25 = .ok (.ireturn, 1) := dk_172 (dk_at dksX7_ask_1 1 rfl rfl)
theorem dX7_ask_26 : decode cX7_ask 26 = .ok (.aload_n 0, 1) := dk_42 (dk_at dksX7_ask_1 2 rfl rfl)
theorem dX7_ask_27 : decode cX7_ask 27 = .ok (.getfield 12, 3) := dk_180 0 12 (dk_at dksX7_ask_1 3 rfl rfl)
theorem dX7_ask_30 : decode cX7_ask 30 = .ok (.iload_n 2, 1) := dk_28 (dk_at dksX7_ask_1 6 rfl rfl)
theorem dX7_ask_31 : decode cX7_ask 31 = .ok (.invokevirtual 172, 3) := dk_182 0 172 (dk_at dksX7_ask_1 7 rfl rfl)
theorem dX7_ask_34 : decode cX7_ask 34 = .ok (.istore_n 3, 1) := dk_62 (dk_at dksX7_ask_1 10 rfl rfl)
theorem dX7_ask_35 : decode cX7_ask 35 = .ok (.iload_n 3, 1) := dk_29 (dk_at dksX7_ask_1 11 rfl rfl)
theorem dX7_ask_36 : decode cX7_ask 36 = .ok (.aload_n 0, 1) := dk_42 (dk_at dksX7_ask_1 12 rfl rfl)
theorem dX7_ask_37 : decode cX7_ask 37 = .ok (.getfield 36, 3) := dk_180 0 36 (dk_at dksX7_ask_1 13 rfl rfl)
theorem dX7_ask_40 : decode cX7_ask 40 = .ok (.iload_n 1, 1) := dk_27 (dk_at dksX7_ask_1 16 rfl rfl)
theorem dX7_ask_41 : decode cX7_ask 41 = .ok (.iaload, 1) := dk_46 (dk_at dksX7_ask_1 17 rfl rfl)
theorem dX7_ask_42 : decode cX7_ask 42 = .ok (.invokestatic 175, 3) := dk_184 0 175 (dk_at dksX7_ask_1 18 rfl rfl)
theorem dX7_ask_45 : decode cX7_ask 45 = .ok (.istore 4, 2) := dk_54 4 (dk_at dksX7_ask_1 21 rfl rfl)
theorem dX7_ask_47 : decode cX7_ask 47 = .ok (.iload 4, 2) := dk_21 4 (dk_at dksX7_ask_2 0 rfl rfl)
theorem dX7_ask_49 : decode cX7_ask 49 = .ok (.aload_n 0, 1) := dk_42 (dk_at dksX7_ask_2 2 rfl rfl)
theorem dX7_ask_50 : decode cX7_ask 50 = .ok (.getfield 12, 3) := dk_180 0 12 (dk_at dksX7_ask_2 3 rfl rfl)
theorem dX7_ask_53 : decode cX7_ask 53 = .ok (.invokevirtual 59, 3) := dk_182 0 59 (dk_at dksX7_ask_2 6 rfl rfl)
theorem dX7_ask_56 : decode cX7_ask 56 = .ok (.if_icmp .lt 18, 3) := dk_161 0 18 (dk_at dksX7_ask_2 9 rfl rfl)
theorem dX7_ask_59 : decode cX7_ask 59 = .ok (.aload_n 0, 1) := dk_42 (dk_at dksX7_ask_2 12 rfl rfl)
theorem dX7_ask_60 : decode cX7_ask 60 = .ok (.getfield 36, 3) := dk_180 0 36 (dk_at dksX7_ask_2 13 rfl rfl)
theorem dX7_ask_63 : decode cX7_ask 63 = .ok (.iload_n 1, 1) := dk_27 (dk_at dksX7_ask_2 16 rfl rfl)
theorem dX7_ask_64 : decode cX7_ask 64 = .ok (.aload_n 0, 1) := dk_42 (dk_at dksX7_ask_2 17 rfl rfl)
theorem dX7_ask_65 : decode cX7_ask 65 = .ok (.getfield 12, 3) := dk_180 0 12 (dk_at dksX7_ask_2 18 rfl rfl)
theorem dX7_ask_68 : decode cX7_ask 68 = .ok (.invokevirtual 59, 3) := dk_182 0 59 (dk_at dksX7_ask_2 21 rfl rfl)
theorem dX7_ask_71 : decode cX7_ask 71 = .ok (.iastore, 1) := dk_79 (dk_at dksX7_ask_3 0 rfl rfl)
theorem dX7_ask_72 : decode cX7_ask 72 = .ok (.iconst 3, 1) := dk_6 (dk_at dksX7_ask_3 1 rfl rfl)
theorem dX7_ask_73 : decode cX7_ask 73 = .ok (.ireturn, 1) := dk_172 (dk_at dksX7_ask_3 2 rfl rfl)
theorem dX7_ask_74 : decode cX7_ask 74 = .ok (.iconst 0, 1) := dk_3 (dk_at dksX7_ask_3 3 rfl rfl)
theorem dX7_ask_75 : decode cX7_ask 75 = .ok (.istore 5, 2) := dk_54 5 (dk_at dksX7_ask_3 4 rfl rfl)
theorem dX7_ask_77 : decode cX7_ask 77 = .ok (.iload 4, 2) := dk_21 4 (dk_at dksX7_ask_3 6 rfl rfl)
theorem dX7_ask_79 : decode cX7_ask 79 = .ok (.istore 6, 2) := dk_54 6 (dk_at dksX7_ask_3 8 rfl rfl)
theorem dX7_ask_81 : decode cX7_ask 81 = .ok (.iload_n 3, 1) := dk_29 (dk_at dksX7_ask_3 10 rfl rfl)
theorem dX7_ask_82 : decode cX7_ask 82 = .ok (.iload 6, 2) := dk_21 6 (dk_at dksX7_ask_3 11 rfl rfl)
theorem dX7_ask_84 : decode cX7_ask 84 = .ok (.aload_n 0, 1) := dk_42 (dk_at dksX7_ask_3 13 rfl rfl)
theorem dX7_ask_85 : decode cX7_ask 85 = .ok (.getfield 12, 3) := dk_180 0 12 (dk_at dksX7_ask_3 14 rfl rfl)
theorem dX7_ask_88 : decode cX7_ask 88 = .ok (.invokevirtual 59, 3) := dk_182 0 59 (dk_at dksX7_ask_3 17 rfl rfl)
theorem dX7_ask_91 : decode cX7_ask 91 = .ok (.invokestatic 178, 3) := dk_184 0 178 (dk_at dksX7_ask_3 20 rfl rfl)
theorem dX7_ask_94 : decode cX7_ask 94 = .ok (.istore 7, 2) := dk_54 7 (dk_at dksX7_ask_4 0 rfl rfl)
theorem dX7_ask_96 : decode cX7_ask 96 = .ok (.iload 7, 2) := dk_21 7 (dk_at dksX7_ask_4 2 rfl rfl)
theorem dX7_ask_98 : decode cX7_ask 98 = .ok (.iload 6, 2) := dk_21 6 (dk_at dksX7_ask_4 4 rfl rfl)
theorem dX7_ask_100 : decode cX7_ask 100 = .ok (.if_icmp .eq 28, 3) := dk_159 0 28 (dk_at dksX7_ask_4 6 rfl rfl)
theorem dX7_ask_103 : decode cX7_ask 103 = .ok (.iload 7, 2) := dk_21 7 (dk_at dksX7_ask_4 9 rfl rfl)
theorem dX7_ask_105 : decode cX7_ask 105 = .ok (.istore 6, 2) := dk_54 6 (dk_at dksX7_ask_4 11 rfl rfl)
theorem dX7_ask_107 : decode cX7_ask 107 = .ok (.iinc 5 1, 3) := dk_132 5 1 (dk_at dksX7_ask_4 13 rfl rfl)
theorem dX7_ask_110 : decode cX7_ask 110 = .ok (.iload_n 3, 1) := dk_29 (dk_at dksX7_ask_4 16 rfl rfl)
theorem dX7_ask_111 : decode cX7_ask 111 = .ok (.iload 6, 2) := dk_21 6 (dk_at dksX7_ask_4 17 rfl rfl)
theorem dX7_ask_113 : decode cX7_ask 113 = .ok (.aload_n 0, 1) := dk_42 (dk_at dksX7_ask_4 19 rfl rfl)
theorem dX7_ask_114 : decode cX7_ask 114 = .ok (.getfield 12, 3) := dk_180 0 12 (dk_at dksX7_ask_4 20 rfl rfl)
theorem dX7_ask_117 : decode cX7_ask 117 = .ok (.invokevirtual 59, 3) := dk_182 0 59 (dk_at dksX7_ask_5 0 rfl rfl)
theorem dX7_ask_120 : decode cX7_ask 120 = .ok (.invokestatic 178, 3) := dk_184 0 178 (dk_at dksX7_ask_5 3 rfl rfl)
theorem dX7_ask_123 : decode cX7_ask 123 = .ok (.istore 7, 2) := dk_54 7 (dk_at dksX7_ask_5 6 rfl rfl)
theorem dX7_ask_125 : decode cX7_ask 125 = .ok (.goto (-29), 3) := dk_167 255 227 (dk_at dksX7_ask_5 8 rfl rfl)
theorem dX7_ask_128 : decode cX7_ask 128 = .ok (.aload_n 0, 1) := dk_42 (dk_at dksX7_ask_5 11 rfl rfl)
theorem dX7_ask_129 : decode cX7_ask 129 = .ok (.dup, 1) := dk_89 (dk_at dksX7_ask_5 12 rfl rfl)
theorem dX7_ask_130 : decode cX7_ask 130 = .ok (.getfield 181, 3) := dk_180 0 181 (dk_at dksX7_ask_5 13 rfl rfl)
theorem dX7_ask_133 : decode cX7_ask 133 = .ok (.iload 5, 2) := dk_21 5 (dk_at dksX7_ask_5 16 rfl rfl)
theorem dX7_ask_135 : decode cX7_ask 135 = .ok (.iadd, 1) := dk_96 (dk_at dksX7_ask_5 18 rfl rfl)
theorem dX7_ask_136 : decode cX7_ask 136 = .ok (.putfield 181, 3) := dk_181 0 181 (dk_at dksX7_ask_5 19 rfl rfl)
theorem dX7_ask_139 : decode cX7_ask 139 = .ok (.iconst 1, 1) := dk_4 (dk_at dksX7_ask_5 22 rfl rfl)
theorem dX7_ask_140 : decode cX7_ask 140 = .ok (.iload 4, 2) := dk_21 4 (dk_at dksX7_ask_6 0 rfl rfl)
theorem dX7_ask_142 : decode cX7_ask 142 = .ok (.aload_n 0, 1) := dk_42 (dk_at dksX7_ask_6 2 rfl rfl)
theorem dX7_ask_143 : decode cX7_ask 143 = .ok (.getfield 12, 3) := dk_180 0 12 (dk_at dksX7_ask_6 3 rfl rfl)
theorem dX7_ask_146 : decode cX7_ask 146 = .ok (.invokevirtual 59, 3) := dk_182 0 59 (dk_at dksX7_ask_6 6 rfl rfl)
theorem dX7_ask_149 : decode cX7_ask 149 = .ok (.invokestatic 168, 3) := dk_184 0 168 (dk_at dksX7_ask_6 9 rfl rfl)
theorem dX7_ask_152 : decode cX7_ask 152 = .ok (.ishl, 1) := dk_120 (dk_at dksX7_ask_6 12 rfl rfl)
theorem dX7_ask_153 : decode cX7_ask 153 = .ok (.istore 7, 2) := dk_54 7 (dk_at dksX7_ask_6 13 rfl rfl)
theorem dX7_ask_155 : decode cX7_ask 155 = .ok (.iload 5, 2) := dk_21 5 (dk_at dksX7_ask_6 15 rfl rfl)
theorem dX7_ask_157 : decode cX7_ask 157 = .ok (.ifCond .le 23, 3) := dk_158 0 23 (dk_at dksX7_ask_6 17 rfl rfl)
theorem dX7_ask_160 : decode cX7_ask 160 = .ok (.aload_n 0, 1) := dk_42 (dk_at dksX7_ask_6 20 rfl rfl)
theorem dX7_ask_161 : decode cX7_ask 161 = .ok (.getfield 36, 3) := dk_180 0 36 (dk_at dksX7_ask_6 21 rfl rfl)
theorem dX7_ask_164 : decode cX7_ask 164 = .ok (.iload_n 1, 1) := dk_27 (dk_at dksX7_ask_7 0 rfl rfl)
theorem dX7_ask_165 : decode cX7_ask 165 = .ok (.iload 7, 2) := dk_21 7 (dk_at dksX7_ask_7 1 rfl rfl)
theorem dX7_ask_167 : decode cX7_ask 167 = .ok (.iload 4, 2) := dk_21 4 (dk_at dksX7_ask_7 3 rfl rfl)
theorem dX7_ask_169 : decode cX7_ask 169 = .ok (.iadd, 1) := dk_96 (dk_at dksX7_ask_7 5 rfl rfl)
theorem dX7_ask_170 : decode cX7_ask 170 = .ok (.iconst 1, 1) := dk_4 (dk_at dksX7_ask_7 6 rfl rfl)
theorem dX7_ask_171 : decode cX7_ask 171 = .ok (.iadd, 1) := dk_96 (dk_at dksX7_ask_7 7 rfl rfl)
theorem dX7_ask_172 : decode cX7_ask 172 = .ok (.iconst 2, 1) := dk_5 (dk_at dksX7_ask_7 8 rfl rfl)
theorem dX7_ask_173 : decode cX7_ask 173 = .ok (.iload 7, 2) := dk_21 7 (dk_at dksX7_ask_7 9 rfl rfl)
theorem dX7_ask_175 : decode cX7_ask 175 = .ok (.imul, 1) := dk_104 (dk_at dksX7_ask_7 11 rfl rfl)
theorem dX7_ask_176 : decode cX7_ask 176 = .ok (.invokestatic 184, 3) := dk_184 0 184 (dk_at dksX7_ask_7 12 rfl rfl)
theorem dX7_ask_179 : decode cX7_ask 179 = .ok (.iastore, 1) := dk_79 (dk_at dksX7_ask_7 15 rfl rfl)
theorem dX7_ask_180 : decode cX7_ask 180 = .ok (.iload 5, 2) := dk_21 5 (dk_at dksX7_ask_7 16 rfl rfl)
theorem dX7_ask_182 : decode cX7_ask 182 = .ok (.ireturn, 1) := dk_172 (dk_at dksX7_ask_7 18 rfl rfl)
abbrev cX7_goal : ByteArray := prog_15_method_29_code
def yX7_goal : MethodName := ⟨RX7, "goal", "(III)I"⟩
def dkwX7_goal_1 : List UInt8 := [159, 0, 21, 21, 5, 27, 164, 0, 15, 21, 5, 21, 4, 162, 0, 8, 21, 5, 167, 0, 5, 21, 4, 172]
abbrev dktX7_goal_1 : List UInt8 := dkwX7_goal_1 ++ []
def dkwX7_goal_0 : List UInt8 := [4, 27, 28, 184, 0, 168, 120, 62, 26, 5, 29, 104, 112, 54, 4, 26, 29, 112, 54, 5, 21, 4, 27]
abbrev dktX7_goal_0 : List UInt8 := dkwX7_goal_0 ++ dktX7_goal_1
theorem dksX7_goal_0 : cX7_goal.data.toList.drop 0 = dktX7_goal_0 := by decide +kernel
theorem dksX7_goal_1 : cX7_goal.data.toList.drop 23 = dktX7_goal_1 := dk_seg dksX7_goal_0 23 rfl rfl
theorem dX7_goal_0 : decode cX7_goal 0 = .ok (.iconst 1, 1) := dk_4 (dk_at dksX7_goal_0 0 rfl rfl)
theorem dX7_goal_1 : decode cX7_goal 1 = .ok (.iload_n 1, 1) := dk_27 (dk_at dksX7_goal_0 1 rfl rfl)
theorem dX7_goal_2 : decode cX7_goal 2 = .ok (.iload_n 2, 1) := dk_28 (dk_at dksX7_goal_0 2 rfl rfl)
theorem dX7_goal_3 : decode cX7_goal 3 = .ok (.invokestatic 168, 3) := dk_184 0 168 (dk_at dksX7_goal_0 3 rfl rfl)
theorem dX7_goal_6 : decode cX7_goal 6 = .ok (.ishl, 1) := dk_120 (dk_at dksX7_goal_0 6 rfl rfl)
theorem dX7_goal_7 : decode cX7_goal 7 = .ok (.istore_n 3, 1) := dk_62 (dk_at dksX7_goal_0 7 rfl rfl)
theorem dX7_goal_8 : decode cX7_goal 8 = .ok (.iload_n 0, 1) := dk_26 (dk_at dksX7_goal_0 8 rfl rfl)
theorem dX7_goal_9 : decode cX7_goal 9 = .ok (.iconst 2, 1) := dk_5 (dk_at dksX7_goal_0 9 rfl rfl)
theorem dX7_goal_10 : decode cX7_goal 10 = .ok (.iload_n 3, 1) := dk_29 (dk_at dksX7_goal_0 10 rfl rfl)
theorem dX7_goal_11 : decode cX7_goal 11 = .ok (.imul, 1) := dk_104 (dk_at dksX7_goal_0 11 rfl rfl)
theorem dX7_goal_12 : decode cX7_goal 12 = .ok (.irem, 1) := dk_112 (dk_at dksX7_goal_0 12 rfl rfl)
theorem dX7_goal_13 : decode cX7_goal 13 = .ok (.istore 4, 2) := dk_54 4 (dk_at dksX7_goal_0 13 rfl rfl)
theorem dX7_goal_15 : decode cX7_goal 15 = .ok (.iload_n 0, 1) := dk_26 (dk_at dksX7_goal_0 15 rfl rfl)
theorem dX7_goal_16 : decode cX7_goal 16 = .ok (.iload_n 3, 1) := dk_29 (dk_at dksX7_goal_0 16 rfl rfl)
theorem dX7_goal_17 : decode cX7_goal 17 = .ok (.irem, 1) := dk_112 (dk_at dksX7_goal_0 17 rfl rfl)
theorem dX7_goal_18 : decode cX7_goal 18 = .ok (.istore 5, 2) := dk_54 5 (dk_at dksX7_goal_0 18 rfl rfl)
theorem dX7_goal_20 : decode cX7_goal 20 = .ok (.iload 4, 2) := dk_21 4 (dk_at dksX7_goal_0 20 rfl rfl)
theorem dX7_goal_22 : decode cX7_goal 22 = .ok (.iload_n 1, 1) := dk_27 (dk_at dksX7_goal_0 22 rfl rfl)
theorem dX7_goal_23 : decode cX7_goal 23 = .ok (.if_icmp .eq 21, 3) := dk_159 0 21 (dk_at dksX7_goal_1 0 rfl rfl)
theorem dX7_goal_26 : decode cX7_goal 26 = .ok (.iload 5, 2) := dk_21 5 (dk_at dksX7_goal_1 3 rfl rfl)
theorem dX7_goal_28 : decode cX7_goal 28 = .ok (.iload_n 1, 1) := dk_27 (dk_at dksX7_goal_1 5 rfl rfl)
theorem dX7_goal_29 : decode cX7_goal 29 = .ok (.if_icmp .le 15, 3) := dk_164 0 15 (dk_at dksX7_goal_1 6 rfl rfl)
theorem dX7_goal_32 : decode cX7_goal 32 = .ok (.iload 5, 2) := dk_21 5 (dk_at dksX7_goal_1 9 rfl rfl)
theorem dX7_goal_34 : decode cX7_goal 34 = .ok (.iload 4, 2) := dk_21 4 (dk_at dksX7_goal_1 11 rfl rfl)
theorem dX7_goal_36 : decode cX7_goal 36 = .ok (.if_icmp .ge 8, 3) := dk_162 0 8 (dk_at dksX7_goal_1 13 rfl rfl)
theorem dX7_goal_39 : decode cX7_goal 39 = .ok (.iload 5, 2) := dk_21 5 (dk_at dksX7_goal_1 16 rfl rfl)
theorem dX7_goal_41 : decode cX7_goal 41 = .ok (.goto 5, 3) := dk_167 0 5 (dk_at dksX7_goal_1 18 rfl rfl)
theorem dX7_goal_44 : decode cX7_goal 44 = .ok (.iload 4, 2) := dk_21 4 (dk_at dksX7_goal_1 21 rfl rfl)
theorem dX7_goal_46 : decode cX7_goal 46 = .ok (.ireturn, 1) := dk_172 (dk_at dksX7_goal_1 23 rfl rfl)
abbrev cX7_depth : ByteArray := prog_15_method_7_code
def yX7_depth : MethodName := ⟨RX7, "depth", "(II)I"⟩
def dkwX7_depth_1 : List UInt8 := [28, 172]
abbrev dktX7_depth_1 : List UInt8 := dkwX7_depth_1 ++ []
def dkwX7_depth_0 : List UInt8 := [3, 61, 5, 28, 120, 26, 164, 0, 12, 26, 5, 28, 120, 96, 27, 162, 0, 9, 132, 2, 1, 167, 255, 237]
abbrev dktX7_depth_0 : List UInt8 := dkwX7_depth_0 ++ dktX7_depth_1
theorem dksX7_depth_0 : cX7_depth.data.toList.drop 0 = dktX7_depth_0 := by decide +kernel
theorem dksX7_depth_1 : cX7_depth.data.toList.drop 24 = dktX7_depth_1 := dk_seg dksX7_depth_0 24 rfl rfl
theorem dX7_depth_0 : decode cX7_depth 0 = .ok (.iconst 0, 1) := dk_3 (dk_at dksX7_depth_0 0 rfl rfl)
theorem dX7_depth_1 : decode cX7_depth 1 = .ok (.istore_n 2, 1) := dk_61 (dk_at dksX7_depth_0 1 rfl rfl)
theorem dX7_depth_2 : decode cX7_depth 2 = .ok (.iconst 2, 1) := dk_5 (dk_at dksX7_depth_0 2 rfl rfl)
theorem dX7_depth_3 : decode cX7_depth 3 = .ok (.iload_n 2, 1) := dk_28 (dk_at dksX7_depth_0 3 rfl rfl)
theorem dX7_depth_4 : decode cX7_depth 4 = .ok (.ishl, 1) := dk_120 (dk_at dksX7_depth_0 4 rfl rfl)
theorem dX7_depth_5 : decode cX7_depth 5 = .ok (.iload_n 0, 1) := dk_26 (dk_at dksX7_depth_0 5 rfl rfl)
theorem dX7_depth_6 : decode cX7_depth 6 = .ok (.if_icmp .le 12, 3) := dk_164 0 12 (dk_at dksX7_depth_0 6 rfl rfl)
theorem dX7_depth_9 : decode cX7_depth 9 = .ok (.iload_n 0, 1) := dk_26 (dk_at dksX7_depth_0 9 rfl rfl)
theorem dX7_depth_10 : decode cX7_depth 10 = .ok (.iconst 2, 1) := dk_5 (dk_at dksX7_depth_0 10 rfl rfl)
theorem dX7_depth_11 : decode cX7_depth 11 = .ok (.iload_n 2, 1) := dk_28 (dk_at dksX7_depth_0 11 rfl rfl)
theorem dX7_depth_12 : decode cX7_depth 12 = .ok (.ishl, 1) := dk_120 (dk_at dksX7_depth_0 12 rfl rfl)
theorem dX7_depth_13 : decode cX7_depth 13 = .ok (.iadd, 1) := dk_96 (dk_at dksX7_depth_0 13 rfl rfl)
theorem dX7_depth_14 : decode cX7_depth 14 = .ok (.iload_n 1, 1) := dk_27 (dk_at dksX7_depth_0 14 rfl rfl)
theorem dX7_depth_15 : decode cX7_depth 15 = .ok (.if_icmp .ge 9, 3) := dk_162 0 9 (dk_at dksX7_depth_0 15 rfl rfl)
theorem dX7_depth_18 : decode cX7_depth 18 = .ok (.iinc 2 1, 3) := dk_132 2 1 (dk_at dksX7_depth_0 18 rfl rfl)
theorem dX7_depth_21 : decode cX7_depth 21 = .ok (.goto (-19), 3) := dk_167 255 237 (dk_at dksX7_depth_0 21 rfl rfl)
theorem dX7_depth_24 : decode cX7_depth 24 = .ok (.iload_n 2, 1) := dk_28 (dk_at dksX7_depth_1 0 rfl rfl)
theorem dX7_depth_25 : decode cX7_depth 25 = .ok (.ireturn, 1) := dk_172 (dk_at dksX7_depth_1 1 rfl rfl)
abbrev cX7_flush : ByteArray := prog_15_method_31_code
def yX7_flush : MethodName := ⟨RX7, "flush", "()I"⟩
def dkwX7_flush_0 : List UInt8 := [42, 3, 181, 0, 48, 42, 180, 0, 28, 182, 0, 85, 60, 42, 182, 0, 102, 27, 172]
abbrev dktX7_flush_0 : List UInt8 := dkwX7_flush_0 ++ []
theorem dksX7_flush_0 : cX7_flush.data.toList.drop 0 = dktX7_flush_0 := by decide +kernel
theorem dX7_flush_0 : decode cX7_flush 0 = .ok (.aload_n 0, 1) := dk_42 (dk_at dksX7_flush_0 0 rfl rfl)
theorem dX7_flush_1 : decode cX7_flush 1 = .ok (.iconst 0, 1) := dk_3 (dk_at dksX7_flush_0 1 rfl rfl)
theorem dX7_flush_2 : decode cX7_flush 2 = .ok (.putfield 48, 3) := dk_181 0 48 (dk_at dksX7_flush_0 2 rfl rfl)
theorem dX7_flush_5 : decode cX7_flush 5 = .ok (.aload_n 0, 1) := dk_42 (dk_at dksX7_flush_0 5 rfl rfl)
theorem dX7_flush_6 : decode cX7_flush 6 = .ok (.getfield 28, 3) := dk_180 0 28 (dk_at dksX7_flush_0 6 rfl rfl)
theorem dX7_flush_9 : decode cX7_flush 9 = .ok (.invokevirtual 85, 3) := dk_182 0 85 (dk_at dksX7_flush_0 9 rfl rfl)
theorem dX7_flush_12 : decode cX7_flush 12 = .ok (.istore_n 1, 1) := dk_60 (dk_at dksX7_flush_0 12 rfl rfl)
theorem dX7_flush_13 : decode cX7_flush 13 = .ok (.aload_n 0, 1) := dk_42 (dk_at dksX7_flush_0 13 rfl rfl)
theorem dX7_flush_14 : decode cX7_flush 14 = .ok (.invokevirtual 102, 3) := dk_182 0 102 (dk_at dksX7_flush_0 14 rfl rfl)
theorem dX7_flush_17 : decode cX7_flush 17 = .ok (.iload_n 1, 1) := dk_27 (dk_at dksX7_flush_0 17 rfl rfl)
theorem dX7_flush_18 : decode cX7_flush 18 = .ok (.ireturn, 1) := dk_172 (dk_at dksX7_flush_0 18 rfl rfl)
abbrev cX7_checkpoint : ByteArray := prog_15_method_32_code
def yX7_checkpoint : MethodName := ⟨RX7, "checkpoint", "()I"⟩
def dkwX7_checkpoint_0 : List UInt8 := [42, 3, 181, 0, 48, 42, 180, 0, 82, 42, 180, 0, 28, 182, 0, 85, 96, 60, 42, 182, 0, 95, 27, 172]
abbrev dktX7_checkpoint_0 : List UInt8 := dkwX7_checkpoint_0 ++ []
theorem dksX7_checkpoint_0 : cX7_checkpoint.data.toList.drop 0 = dktX7_checkpoint_0 := by decide +kernel
theorem dX7_checkpoint_0 : decode cX7_checkpoint 0 = .ok (.aload_n 0, 1) := dk_42 (dk_at dksX7_checkpoint_0 0 rfl rfl)
theorem dX7_checkpoint_1 : decode cX7_checkpoint 1 = .ok (.iconst 0, 1) := dk_3 (dk_at dksX7_checkpoint_0 1 rfl rfl)
theorem dX7_checkpoint_2 : decode cX7_checkpoint 2 = .ok (.putfield 48, 3) := dk_181 0 48 (dk_at dksX7_checkpoint_0 2 rfl rfl)
theorem dX7_checkpoint_5 : decode cX7_checkpoint 5 = .ok (.aload_n 0, 1) := dk_42 (dk_at dksX7_checkpoint_0 5 rfl rfl)
theorem dX7_checkpoint_6 : decode cX7_checkpoint 6 = .ok (.getfield 82, 3) := dk_180 0 82 (dk_at dksX7_checkpoint_0 6 rfl rfl)
theorem dX7_checkpoint_9 : decode cX7_checkpoint 9 = .ok (.aload_n 0, 1) := dk_42 (dk_at dksX7_checkpoint_0 9 rfl rfl)
theorem dX7_checkpoint_10 : decode cX7_checkpoint 10 = .ok (.getfield 28, 3) := dk_180 0 28 (dk_at dksX7_checkpoint_0 10 rfl rfl)
theorem dX7_checkpoint_13 : decode cX7_checkpoint 13 = .ok (.invokevirtual 85, 3) := dk_182 0 85 (dk_at dksX7_checkpoint_0 13 rfl rfl)
theorem dX7_checkpoint_16 : decode cX7_checkpoint 16 = .ok (.iadd, 1) := dk_96 (dk_at dksX7_checkpoint_0 16 rfl rfl)
theorem dX7_checkpoint_17 : decode cX7_checkpoint 17 = .ok (.istore_n 1, 1) := dk_60 (dk_at dksX7_checkpoint_0 17 rfl rfl)
theorem dX7_checkpoint_18 : decode cX7_checkpoint 18 = .ok (.aload_n 0, 1) := dk_42 (dk_at dksX7_checkpoint_0 18 rfl rfl)
theorem dX7_checkpoint_19 : decode cX7_checkpoint 19 = .ok (.invokevirtual 95, 3) := dk_182 0 95 (dk_at dksX7_checkpoint_0 19 rfl rfl)
theorem dX7_checkpoint_22 : decode cX7_checkpoint 22 = .ok (.iload_n 1, 1) := dk_27 (dk_at dksX7_checkpoint_0 22 rfl rfl)
theorem dX7_checkpoint_23 : decode cX7_checkpoint 23 = .ok (.ireturn, 1) := dk_172 (dk_at dksX7_checkpoint_0 23 rfl rfl)
abbrev cX7_crash : ByteArray := prog_15_method_33_code
def yX7_crash : MethodName := ⟨RX7, "crash", "()I"⟩
def dkwX7_crash_2 : List UInt8 := [181, 0, 189, 27, 172]
abbrev dktX7_crash_2 : List UInt8 := dkwX7_crash_2 ++ []
def dkwX7_crash_1 : List UInt8 := [180, 0, 18, 182, 0, 91, 181, 0, 12, 42, 180, 0, 32, 2, 184, 0, 111, 42, 89, 180, 0, 189, 4, 96]
abbrev dktX7_crash_1 : List UInt8 := dkwX7_crash_1 ++ dktX7_crash_2
def dkwX7_crash_0 : List UInt8 := [42, 3, 181, 0, 48, 42, 180, 0, 28, 182, 0, 85, 60, 42, 180, 0, 28, 182, 0, 88, 42, 42]
abbrev dktX7_crash_0 : List UInt8 := dkwX7_crash_0 ++ dktX7_crash_1
theorem dksX7_crash_0 : cX7_crash.data.toList.drop 0 = dktX7_crash_0 := by decide +kernel
theorem dksX7_crash_1 : cX7_crash.data.toList.drop 22 = dktX7_crash_1 := dk_seg dksX7_crash_0 22 rfl rfl
theorem dksX7_crash_2 : cX7_crash.data.toList.drop 46 = dktX7_crash_2 := dk_seg dksX7_crash_1 24 rfl rfl
theorem dX7_crash_0 : decode cX7_crash 0 = .ok (.aload_n 0, 1) := dk_42 (dk_at dksX7_crash_0 0 rfl rfl)
theorem dX7_crash_1 : decode cX7_crash 1 = .ok (.iconst 0, 1) := dk_3 (dk_at dksX7_crash_0 1 rfl rfl)
theorem dX7_crash_2 : decode cX7_crash 2 = .ok (.putfield 48, 3) := dk_181 0 48 (dk_at dksX7_crash_0 2 rfl rfl)
theorem dX7_crash_5 : decode cX7_crash 5 = .ok (.aload_n 0, 1) := dk_42 (dk_at dksX7_crash_0 5 rfl rfl)
theorem dX7_crash_6 : decode cX7_crash 6 = .ok (.getfield 28, 3) := dk_180 0 28 (dk_at dksX7_crash_0 6 rfl rfl)
theorem dX7_crash_9 : decode cX7_crash 9 = .ok (.invokevirtual 85, 3) := dk_182 0 85 (dk_at dksX7_crash_0 9 rfl rfl)
theorem dX7_crash_12 : decode cX7_crash 12 = .ok (.istore_n 1, 1) := dk_60 (dk_at dksX7_crash_0 12 rfl rfl)
theorem dX7_crash_13 : decode cX7_crash 13 = .ok (.aload_n 0, 1) := dk_42 (dk_at dksX7_crash_0 13 rfl rfl)
theorem dX7_crash_14 : decode cX7_crash 14 = .ok (.getfield 28, 3) := dk_180 0 28 (dk_at dksX7_crash_0 14 rfl rfl)
theorem dX7_crash_17 : decode cX7_crash 17 = .ok (.invokevirtual 88, 3) := dk_182 0 88 (dk_at dksX7_crash_0 17 rfl rfl)
theorem dX7_crash_20 : decode cX7_crash 20 = .ok (.aload_n 0, 1) := dk_42 (dk_at dksX7_crash_0 20 rfl rfl)
theorem dX7_crash_21 : decode cX7_crash 21 = .ok (.aload_n 0, 1) := dk_42 (dk_at dksX7_crash_0 21 rfl rfl)
theorem dX7_crash_22 : decode cX7_crash 22 = .ok (.getfield 18, 3) := dk_180 0 18 (dk_at dksX7_crash_1 0 rfl rfl)
theorem dX7_crash_25 : decode cX7_crash 25 = .ok (.invokevirtual 91, 3) := dk_182 0 91 (dk_at dksX7_crash_1 3 rfl rfl)
theorem dX7_crash_28 : decode cX7_crash 28 = .ok (.putfield 12, 3) := dk_181 0 12 (dk_at dksX7_crash_1 6 rfl rfl)
theorem dX7_crash_31 : decode cX7_crash 31 = .ok (.aload_n 0, 1) := dk_42 (dk_at dksX7_crash_1 9 rfl rfl)
theorem dX7_crash_32 : decode cX7_crash 32 = .ok (.getfield 32, 3) := dk_180 0 32 (dk_at dksX7_crash_1 10 rfl rfl)
theorem dX7_crash_35 : decode cX7_crash 35 = .ok (.iconst (-1), 1) := dk_2 (dk_at dksX7_crash_1 13 rfl rfl)
theorem dX7_crash_36 : decode cX7_crash 36 = .ok (.invokestatic 111, 3) := dk_184 0 111 (dk_at dksX7_crash_1 14 rfl rfl)
theorem dX7_crash_39 : decode cX7_crash 39 = .ok (.aload_n 0, 1) := dk_42 (dk_at dksX7_crash_1 17 rfl rfl)
theorem dX7_crash_40 : decode cX7_crash 40 = .ok (.dup, 1) := dk_89 (dk_at dksX7_crash_1 18 rfl rfl)
theorem dX7_crash_41 : decode cX7_crash 41 = .ok (.getfield 189, 3) := dk_180 0 189 (dk_at dksX7_crash_1 19 rfl rfl)
theorem dX7_crash_44 : decode cX7_crash 44 = .ok (.iconst 1, 1) := dk_4 (dk_at dksX7_crash_1 22 rfl rfl)
theorem dX7_crash_45 : decode cX7_crash 45 = .ok (.iadd, 1) := dk_96 (dk_at dksX7_crash_1 23 rfl rfl)
theorem dX7_crash_46 : decode cX7_crash 46 = .ok (.putfield 189, 3) := dk_181 0 189 (dk_at dksX7_crash_2 0 rfl rfl)
theorem dX7_crash_49 : decode cX7_crash 49 = .ok (.iload_n 1, 1) := dk_27 (dk_at dksX7_crash_2 3 rfl rfl)
theorem dX7_crash_50 : decode cX7_crash 50 = .ok (.ireturn, 1) := dk_172 (dk_at dksX7_crash_2 4 rfl rfl)
abbrev cX7_knock : ByteArray := prog_15_method_34_code
def yX7_knock : MethodName := ⟨RX7, "knock", "()I"⟩
def dkwX7_knock_0 : List UInt8 := [42, 3, 181, 0, 48, 42, 89, 180, 0, 192, 4, 96, 181, 0, 192, 42, 180, 0, 192, 172]
abbrev dktX7_knock_0 : List UInt8 := dkwX7_knock_0 ++ []
theorem dksX7_knock_0 : cX7_knock.data.toList.drop 0 = dktX7_knock_0 := by decide +kernel
theorem dX7_knock_0 : decode cX7_knock 0 = .ok (.aload_n 0, 1) := dk_42 (dk_at dksX7_knock_0 0 rfl rfl)
theorem dX7_knock_1 : decode cX7_knock 1 = .ok (.iconst 0, 1) := dk_3 (dk_at dksX7_knock_0 1 rfl rfl)
theorem dX7_knock_2 : decode cX7_knock 2 = .ok (.putfield 48, 3) := dk_181 0 48 (dk_at dksX7_knock_0 2 rfl rfl)
theorem dX7_knock_5 : decode cX7_knock 5 = .ok (.aload_n 0, 1) := dk_42 (dk_at dksX7_knock_0 5 rfl rfl)
theorem dX7_knock_6 : decode cX7_knock 6 = .ok (.dup, 1) := dk_89 (dk_at dksX7_knock_0 6 rfl rfl)
theorem dX7_knock_7 : decode cX7_knock 7 = .ok (.getfield 192, 3) := dk_180 0 192 (dk_at dksX7_knock_0 7 rfl rfl)
theorem dX7_knock_10 : decode cX7_knock 10 = .ok (.iconst 1, 1) := dk_4 (dk_at dksX7_knock_0 10 rfl rfl)
theorem dX7_knock_11 : decode cX7_knock 11 = .ok (.iadd, 1) := dk_96 (dk_at dksX7_knock_0 11 rfl rfl)
theorem dX7_knock_12 : decode cX7_knock 12 = .ok (.putfield 192, 3) := dk_181 0 192 (dk_at dksX7_knock_0 12 rfl rfl)
theorem dX7_knock_15 : decode cX7_knock 15 = .ok (.aload_n 0, 1) := dk_42 (dk_at dksX7_knock_0 15 rfl rfl)
theorem dX7_knock_16 : decode cX7_knock 16 = .ok (.getfield 192, 3) := dk_180 0 192 (dk_at dksX7_knock_0 16 rfl rfl)
theorem dX7_knock_19 : decode cX7_knock 19 = .ok (.ireturn, 1) := dk_172 (dk_at dksX7_knock_0 19 rfl rfl)
abbrev cX7_get : ByteArray := prog_15_method_35_code
def yX7_get : MethodName := ⟨RX7, "get", "(I)I"⟩
def dkwX7_get_1 : List UInt8 := [172]
abbrev dktX7_get_1 : List UInt8 := dkwX7_get_1 ++ []
def dkwX7_get_0 : List UInt8 := [42, 27, 184, 0, 120, 4, 182, 0, 105, 153, 0, 7, 3, 167, 0, 11, 42, 180, 0, 12, 27, 182, 0, 124]
abbrev dktX7_get_0 : List UInt8 := dkwX7_get_0 ++ dktX7_get_1
theorem dksX7_get_0 : cX7_get.data.toList.drop 0 = dktX7_get_0 := by decide +kernel
theorem dksX7_get_1 : cX7_get.data.toList.drop 24 = dktX7_get_1 := dk_seg dksX7_get_0 24 rfl rfl
theorem dX7_get_0 : decode cX7_get 0 = .ok (.aload_n 0, 1) := dk_42 (dk_at dksX7_get_0 0 rfl rfl)
theorem dX7_get_1 : decode cX7_get 1 = .ok (.iload_n 1, 1) := dk_27 (dk_at dksX7_get_0 1 rfl rfl)
theorem dX7_get_2 : decode cX7_get 2 = .ok (.invokestatic 120, 3) := dk_184 0 120 (dk_at dksX7_get_0 2 rfl rfl)
theorem dX7_get_5 : decode cX7_get 5 = .ok (.iconst 1, 1) := dk_4 (dk_at dksX7_get_0 5 rfl rfl)
theorem dX7_get_6 : decode cX7_get 6 = .ok (.invokevirtual 105, 3) := dk_182 0 105 (dk_at dksX7_get_0 6 rfl rfl)
theorem dX7_get_9 : decode cX7_get 9 = .ok (.ifCond .eq 7, 3) := dk_153 0 7 (dk_at dksX7_get_0 9 rfl rfl)
theorem dX7_get_12 : decode cX7_get 12 = .ok (.iconst 0, 1) := dk_3 (dk_at dksX7_get_0 12 rfl rfl)
theorem dX7_get_13 : decode cX7_get 13 = .ok (.goto 11, 3) := dk_167 0 11 (dk_at dksX7_get_0 13 rfl rfl)
theorem dX7_get_16 : decode cX7_get 16 = .ok (.aload_n 0, 1) := dk_42 (dk_at dksX7_get_0 16 rfl rfl)
theorem dX7_get_17 : decode cX7_get 17 = .ok (.getfield 12, 3) := dk_180 0 12 (dk_at dksX7_get_0 17 rfl rfl)
theorem dX7_get_20 : decode cX7_get 20 = .ok (.iload_n 1, 1) := dk_27 (dk_at dksX7_get_0 20 rfl rfl)
theorem dX7_get_21 : decode cX7_get 21 = .ok (.invokevirtual 124, 3) := dk_182 0 124 (dk_at dksX7_get_0 21 rfl rfl)
theorem dX7_get_24 : decode cX7_get 24 = .ok (.ireturn, 1) := dk_172 (dk_at dksX7_get_1 0 rfl rfl)
abbrev cX7_ofKey : ByteArray := prog_15_method_37_code
def yX7_ofKey : MethodName := ⟨RX7, "ofKey", "(II)I"⟩
def dkwX7_ofKey_1 : List UInt8 := [182, 0, 105, 153, 0, 7, 3, 167, 0, 9, 42, 27, 28, 182, 0, 204, 172]
abbrev dktX7_ofKey_1 : List UInt8 := dkwX7_ofKey_1 ++ []
def dkwX7_ofKey_0 : List UInt8 := [42, 27, 184, 0, 120, 154, 0, 12, 28, 3, 8, 184, 0, 55, 154, 0, 7, 4, 167, 0, 4, 3, 4]
abbrev dktX7_ofKey_0 : List UInt8 := dkwX7_ofKey_0 ++ dktX7_ofKey_1
theorem dksX7_ofKey_0 : cX7_ofKey.data.toList.drop 0 = dktX7_ofKey_0 := by decide +kernel
theorem dksX7_ofKey_1 : cX7_ofKey.data.toList.drop 23 = dktX7_ofKey_1 := dk_seg dksX7_ofKey_0 23 rfl rfl
theorem dX7_ofKey_0 : decode cX7_ofKey 0 = .ok (.aload_n 0, 1) := dk_42 (dk_at dksX7_ofKey_0 0 rfl rfl)
theorem dX7_ofKey_1 : decode cX7_ofKey 1 = .ok (.iload_n 1, 1) := dk_27 (dk_at dksX7_ofKey_0 1 rfl rfl)
theorem dX7_ofKey_2 : decode cX7_ofKey 2 = .ok (.invokestatic 120, 3) := dk_184 0 120 (dk_at dksX7_ofKey_0 2 rfl rfl)
theorem dX7_ofKey_5 : decode cX7_ofKey 5 = .ok (.ifCond .ne 12, 3) := dk_154 0 12 (dk_at dksX7_ofKey_0 5 rfl rfl)
theorem dX7_ofKey_8 : decode cX7_ofKey 8 = .ok (.iload_n 2, 1) := dk_28 (dk_at dksX7_ofKey_0 8 rfl rfl)
theorem dX7_ofKey_9 : decode cX7_ofKey 9 = .ok (.iconst 0, 1) := dk_3 (dk_at dksX7_ofKey_0 9 rfl rfl)
theorem dX7_ofKey_10 : decode cX7_ofKey 10 = .ok (.iconst 5, 1) := dk_8 (dk_at dksX7_ofKey_0 10 rfl rfl)
theorem dX7_ofKey_11 : decode cX7_ofKey 11 = .ok (.invokestatic 55, 3) := dk_184 0 55 (dk_at dksX7_ofKey_0 11 rfl rfl)
theorem dX7_ofKey_14 : decode cX7_ofKey 14 = .ok (.ifCond .ne 7, 3) := dk_154 0 7 (dk_at dksX7_ofKey_0 14 rfl rfl)
theorem dX7_ofKey_17 : decode cX7_ofKey 17 = .ok (.iconst 1, 1) := dk_4 (dk_at dksX7_ofKey_0 17 rfl rfl)
theorem dX7_ofKey_18 : decode cX7_ofKey 18 = .ok (.goto 4, 3) := dk_167 0 4 (dk_at dksX7_ofKey_0 18 rfl rfl)
theorem dX7_ofKey_21 : decode cX7_ofKey 21 = .ok (.iconst 0, 1) := dk_3 (dk_at dksX7_ofKey_0 21 rfl rfl)
theorem dX7_ofKey_22 : decode cX7_ofKey 22 = .ok (.iconst 1, 1) := dk_4 (dk_at dksX7_ofKey_0 22 rfl rfl)
theorem dX7_ofKey_23 : decode cX7_ofKey 23 = .ok (.invokevirtual 105, 3) := dk_182 0 105 (dk_at dksX7_ofKey_1 0 rfl rfl)
theorem dX7_ofKey_26 : decode cX7_ofKey 26 = .ok (.ifCond .eq 7, 3) := dk_153 0 7 (dk_at dksX7_ofKey_1 3 rfl rfl)
theorem dX7_ofKey_29 : decode cX7_ofKey 29 = .ok (.iconst 0, 1) := dk_3 (dk_at dksX7_ofKey_1 6 rfl rfl)
theorem dX7_ofKey_30 : decode cX7_ofKey 30 = .ok (.goto 9, 3) := dk_167 0 9 (dk_at dksX7_ofKey_1 7 rfl rfl)
theorem dX7_ofKey_33 : decode cX7_ofKey 33 = .ok (.aload_n 0, 1) := dk_42 (dk_at dksX7_ofKey_1 10 rfl rfl)
theorem dX7_ofKey_34 : decode cX7_ofKey 34 = .ok (.iload_n 1, 1) := dk_27 (dk_at dksX7_ofKey_1 11 rfl rfl)
theorem dX7_ofKey_35 : decode cX7_ofKey 35 = .ok (.iload_n 2, 1) := dk_28 (dk_at dksX7_ofKey_1 12 rfl rfl)
theorem dX7_ofKey_36 : decode cX7_ofKey 36 = .ok (.invokevirtual 204, 3) := dk_182 0 204 (dk_at dksX7_ofKey_1 13 rfl rfl)
theorem dX7_ofKey_39 : decode cX7_ofKey 39 = .ok (.ireturn, 1) := dk_172 (dk_at dksX7_ofKey_1 16 rfl rfl)
abbrev cX7_keyTold : ByteArray := prog_15_method_36_code
def yX7_keyTold : MethodName := ⟨RX7, "keyTold", "(II)I"⟩
def dkwX7_keyTold_5 : List UInt8 := [167, 0, 13, 21, 5, 42, 180, 0, 12, 180, 0, 145, 112, 79, 58, 6, 25, 6, 28, 46, 172]
abbrev dktX7_keyTold_5 : List UInt8 := dkwX7_keyTold_5 ++ []
def dkwX7_keyTold_4 : List UInt8 := [180, 0, 145, 108, 182, 0, 198, 192, 0, 40, 182, 0, 201, 79, 89, 8, 21, 5, 2, 160, 0, 7, 2]
abbrev dktX7_keyTold_4 : List UInt8 := dkwX7_keyTold_4 ++ dktX7_keyTold_5
def dkwX7_keyTold_3 : List UInt8 := [89, 7, 21, 5, 2, 160, 0, 7, 2, 167, 0, 27, 25, 4, 180, 0, 142, 21, 5, 42, 180, 0, 12]
abbrev dktX7_keyTold_3 : List UInt8 := dkwX7_keyTold_3 ++ dktX7_keyTold_4
def dkwX7_keyTold_2 : List UInt8 := [180, 0, 12, 182, 0, 59, 184, 0, 175, 79, 89, 6, 42, 180, 0, 12, 27, 182, 0, 127, 184, 0, 151, 79]
abbrev dktX7_keyTold_2 : List UInt8 := dkwX7_keyTold_2 ++ dktX7_keyTold_3
def dkwX7_keyTold_1 : List UInt8 := [182, 0, 134, 54, 5, 16, 6, 188, 10, 89, 3, 29, 79, 89, 4, 29, 184, 0, 195, 79, 89, 5, 29, 42]
abbrev dktX7_keyTold_1 : List UInt8 := dkwX7_keyTold_1 ++ dktX7_keyTold_2
def dkwX7_keyTold_0 : List UInt8 := [42, 180, 0, 12, 27, 182, 0, 172, 62, 42, 180, 0, 12, 27, 182, 0, 130, 58, 4, 25, 4, 27]
abbrev dktX7_keyTold_0 : List UInt8 := dkwX7_keyTold_0 ++ dktX7_keyTold_1
theorem dksX7_keyTold_0 : cX7_keyTold.data.toList.drop 0 = dktX7_keyTold_0 := by decide +kernel
theorem dksX7_keyTold_1 : cX7_keyTold.data.toList.drop 22 = dktX7_keyTold_1 := dk_seg dksX7_keyTold_0 22 rfl rfl
theorem dksX7_keyTold_2 : cX7_keyTold.data.toList.drop 46 = dktX7_keyTold_2 := dk_seg dksX7_keyTold_1 24 rfl rfl
theorem dksX7_keyTold_3 : cX7_keyTold.data.toList.drop 70 = dktX7_keyTold_3 := dk_seg dksX7_keyTold_2 24 rfl rfl
theorem dksX7_keyTold_4 : cX7_keyTold.data.toList.drop 93 = dktX7_keyTold_4 := dk_seg dksX7_keyTold_3 23 rfl rfl
theorem dksX7_keyTold_5 : cX7_keyTold.data.toList.drop 116 = dktX7_keyTold_5 := dk_seg dksX7_keyTold_4 23 rfl rfl
theorem dX7_keyTold_0 : decode cX7_keyTold 0 = .ok (.aload_n 0, 1) := dk_42 (dk_at dksX7_keyTold_0 0 rfl rfl)
theorem dX7_keyTold_1 : decode cX7_keyTold 1 = .ok (.getfield 12, 3) := dk_180 0 12 (dk_at dksX7_keyTold_0 1 rfl rfl)
theorem dX7_keyTold_4 : decode cX7_keyTold 4 = .ok (.iload_n 1, 1) := dk_27 (dk_at dksX7_keyTold_0 4 rfl rfl)
theorem dX7_keyTold_5 : decode cX7_keyTold 5 = .ok (.invokevirtual 172, 3) := dk_182 0 172 (dk_at dksX7_keyTold_0 5 rfl rfl)
theorem dX7_keyTold_8 : decode cX7_keyTold 8 = .ok (.istore_n 3, 1) := dk_62 (dk_at dksX7_keyTold_0 8 rfl rfl)
theorem dX7_keyTold_9 : decode cX7_keyTold 9 = .ok (.aload_n 0, 1) := dk_42 (dk_at dksX7_keyTold_0 9 rfl rfl)
theorem dX7_keyTold_10 : decode cX7_keyTold 10 = .ok (.getfield 12, 3) := dk_180 0 12 (dk_at dksX7_keyTold_0 10 rfl rfl)
theorem dX7_keyTold_13 : decode cX7_keyTold 13 = .ok (.iload_n 1, 1) := dk_27 (dk_at dksX7_keyTold_0 13 rfl rfl)
theorem dX7_keyTold_14 : decode cX7_keyTold 14 = .ok (.invokevirtual 130, 3) := dk_182 0 130 (dk_at dksX7_keyTold_0 14 rfl rfl)
theorem dX7_keyTold_17 : decode cX7_keyTold 17 = .ok (.astore 4, 2) := dk_58 4 (dk_at dksX7_keyTold_0 17 rfl rfl)
theorem dX7_keyTold_19 : decode cX7_keyTold 19 = .ok (.aload 4, 2) := dk_25 4 (dk_at dksX7_keyTold_0 19 rfl rfl)
theorem dX7_keyTold_21 : decode cX7_keyTold 21 = .ok (.iload_n 1, 1) := dk_27 (dk_at dksX7_keyTold_0 21 rfl rfl)
theorem dX7_keyTold_22 : decode cX7_keyTold 22 = .ok (.invokevirtual 134, 3) := dk_182 0 134 (dk_at dksX7_keyTold_1 0 rfl rfl)
theorem dX7_keyTold_25 : decode cX7_keyTold 25 = .ok (.istore 5, 2) := dk_54 5 (dk_at dksX7_keyTold_1 3 rfl rfl)
theorem dX7_keyTold_27 : decode cX7_keyTold 27 = .ok (.bipush 6, 2) := dk_16 6 (dk_at dksX7_keyTold_1 5 rfl rfl)
theorem dX7_keyTold_29 : decode cX7_keyTold 29 = .ok (.newarray .int, 2) := dk_188_10 (dk_at dksX7_keyTold_1 7 rfl rfl)
theorem dX7_keyTold_31 : decode cX7_keyTold 31 = .ok (.dup, 1) := dk_89 (dk_at dksX7_keyTold_1 9 rfl rfl)
theorem dX7_keyTold_32 : decode cX7_keyTold 32 = .ok (.iconst 0, 1) := dk_3 (dk_at dksX7_keyTold_1 10 rfl rfl)
theorem dX7_keyTold_33 : decode cX7_keyTold 33 = .ok (.iload_n 3, 1) := dk_29 (dk_at dksX7_keyTold_1 11 rfl rfl)
theorem dX7_keyTold_34 : decode cX7_keyTold 34 = .ok (.iastore, 1) := dk_79 (dk_at dksX7_keyTold_1 12 rfl rfl)
theorem dX7_keyTold_35 : decode cX7_keyTold 35 = .ok (.dup, 1) := dk_89 (dk_at dksX7_keyTold_1 13 rfl rfl)
theorem dX7_keyTold_36 : decode cX7_keyTold 36 = .ok (.iconst 1, 1) := dk_4 (dk_at dksX7_keyTold_1 14 rfl rfl)
theorem dX7_keyTold_37 : decode cX7_keyTold 37 = .ok (.iload_n 3, 1) := dk_29 (dk_at dksX7_keyTold_1 15 rfl rfl)
theorem dX7_keyTold_38 : decode cX7_keyTold 38 = .ok (.invokestatic 195, 3) := dk_184 0 195 (dk_at dksX7_keyTold_1 16 rfl rfl)
theorem dX7_keyTold_41 : decode cX7_keyTold 41 = .ok (.iastore, 1) := dk_79 (dk_at dksX7_keyTold_1 19 rfl rfl)
theorem dX7_keyTold_42 : decode cX7_keyTold 42 = .ok (.dup, 1) := dk_89 (dk_at dksX7_keyTold_1 20 rfl rfl)
theorem dX7_keyTold_43 : decode cX7_keyTold 43 = .ok (.iconst 2, 1) := dk_5 (dk_at dksX7_keyTold_1 21 rfl rfl)
theorem dX7_keyTold_44 : decode cX7_keyTold 44 = .ok (.iload_n 3, 1) := dk_29 (dk_at dksX7_keyTold_1 22 rfl rfl)
theorem dX7_keyTold_45 : decode cX7_keyTold 45 = .ok (.aload_n 0, 1) := dk_42 (dk_at dksX7_keyTold_1 23 rfl rfl)
theorem dX7_keyTold_46 : decode cX7_keyTold 46 = .ok (.getfield 12, 3) := dk_180 0 12 (dk_at dksX7_keyTold_2 0 rfl rfl)
theorem dX7_keyTold_49 : decode cX7_keyTold 49 = .ok (.invokevirtual 59, 3) := dk_182 0 59 (dk_at dksX7_keyTold_2 3 rfl rfl)
theorem dX7_keyTold_52 : decode cX7_keyTold 52 = .ok (.invokestatic 175, 3) := dk_184 0 175 (dk_at dksX7_keyTold_2 6 rfl rfl)
theorem dX7_keyTold_55 : decode cX7_keyTold 55 = .ok (.iastore, 1) := dk_79 (dk_at dksX7_keyTold_2 9 rfl rfl)
theorem dX7_keyTold_56 : decode cX7_keyTold 56 = .ok (.dup, 1) := dk_89 (dk_at dksX7_keyTold_2 10 rfl rfl)
theorem dX7_keyTold_57 : decode cX7_keyTold 57 = .ok (.iconst 3, 1) := dk_6 (dk_at dksX7_keyTold_2 11 rfl rfl)
theorem dX7_keyTold_58 : decode cX7_keyTold 58 = .ok (.aload_n 0, 1) := dk_42 (dk_at dksX7_keyTold_2 12 rfl rfl)
theorem dX7_keyTold_59 : decode cX7_keyTold 59 = .ok (.getfield 12, 3) := dk_180 0 12 (dk_at dksX7_keyTold_2 13 rfl rfl)
theorem dX7_keyTold_62 : decode cX7_keyTold 62 = .ok (.iload_n 1, 1) := dk_27 (dk_at dksX7_keyTold_2 16 rfl rfl)
theorem dX7_keyTold_63 : decode cX7_keyTold 63 = .ok (.invokevirtual 127, 3) := dk_182 0 127 (dk_at dksX7_keyTold_2 17 rfl rfl)
theorem dX7_keyTold_66 : decode cX7_keyTold 66 = .ok (.invokestatic 151, 3) := dk_184 0 151 (dk_at dksX7_keyTold_2 20 rfl rfl)
theorem dX7_keyTold_69 : decode cX7_keyTold 69 = .ok (.iastore, 1) := dk_79 (dk_at dksX7_keyTold_2 23 rfl rfl)
theorem dX7_keyTold_70 : decode cX7_keyTold 70 = .ok (.dup, 1) := dk_89 (dk_at dksX7_keyTold_3 0 rfl rfl)
theorem dX7_keyTold_71 : decode cX7_keyTold 71 = .ok (.iconst 4, 1) := dk_7 (dk_at dksX7_keyTold_3 1 rfl rfl)
theorem dX7_keyTold_72 : decode cX7_keyTold 72 = .ok (.iload 5, 2) := dk_21 5 (dk_at dksX7_keyTold_3 2 rfl rfl)
theorem dX7_keyTold_74 : decode cX7_keyTold 74 = .ok (.iconst (-1), 1) := dk_2 (dk_at dksX7_keyTold_3 4 rfl rfl)
theorem dX7_keyTold_75 : decode cX7_keyTold 75 = .ok (.if_icmp .ne 7, 3) := dk_160 0 7 (dk_at dksX7_keyTold_3 5 rfl rfl)
theorem dX7_keyTold_78 : decode cX7_keyTold 78 = .ok (.iconst (-1), 1) := dk_2 (dk_at dksX7_keyTold_3 8 rfl rfl)
theorem dX7_keyTold_79 : decode cX7_keyTold 79 = .ok (.goto 27, 3) := dk_167 0 27 (dk_at dksX7_keyTold_3 9 rfl rfl)
theorem dX7_keyTold_82 : decode cX7_keyTold 82 = .ok (.aload 4, 2) := dk_25 4 (dk_at dksX7_keyTold_3 12 rfl rfl)
theorem dX7_keyTold_84 : decode cX7_keyTold 84 = .ok (.getfield 142, 3) := dk_180 0 142 (dk_at dksX7_keyTold_3 14 rfl rfl)
theorem dX7_keyTold_87 : decode cX7_keyTold 87 = .ok (.iload 5, 2) := dk_21 5 (dk_at dksX7_keyTold_3 17 rfl rfl)
theorem dX7_keyTold_89 : decode cX7_keyTold 89 = .ok (.aload_n 0, 1) := dk_42 (dk_at dksX7_keyTold_3 19 rfl rfl)
theorem dX7_keyTold_90 : decode cX7_keyTold 90 = .ok (.getfield 12, 3) := dk_180 0 12 (dk_at dksX7_keyTold_3 20 rfl rfl)
theorem dX7_keyTold_93 : decode cX7_keyTold 93 = .ok (.getfield 145, 3) := dk_180 0 145 (dk_at dksX7_keyTold_4 0 rfl rfl)
theorem dX7_keyTold_96 : decode cX7_keyTold 96 = .ok (.idiv, 1) := dk_108 (dk_at dksX7_keyTold_4 3 rfl rfl)
theorem dX7_keyTold_97 : decode cX7_keyTold 97 = .ok (.invokevirtual 198, 3) := dk_182 0 198 (dk_at dksX7_keyTold_4 4 rfl rfl)
theorem dX7_keyTold_100 : decode cX7_keyTold 100 = .ok (.checkcast 40, 3) := dk_192 0 40 (dk_at dksX7_keyTold_4 7 rfl rfl)
theorem dX7_keyTold_103 : decode cX7_keyTold 103 = .ok (.invokevirtual 201, 3) := dk_182 0 201 (dk_at dksX7_keyTold_4 10 rfl rfl)
theorem dX7_keyTold_106 : decode cX7_keyTold 106 = .ok (.iastore, 1) := dk_79 (dk_at dksX7_keyTold_4 13 rfl rfl)
theorem dX7_keyTold_107 : decode cX7_keyTold 107 = .ok (.dup, 1) := dk_89 (dk_at dksX7_keyTold_4 14 rfl rfl)
theorem dX7_keyTold_108 : decode cX7_keyTold 108 = .ok (.iconst 5, 1) := dk_8 (dk_at dksX7_keyTold_4 15 rfl rfl)
theorem dX7_keyTold_109 : decode cX7_keyTold 109 = .ok (.iload 5, 2) := dk_21 5 (dk_at dksX7_keyTold_4 16 rfl rfl)
theorem dX7_keyTold_111 : decode cX7_keyTold 111 = .ok (.iconst (-1), 1) := dk_2 (dk_at dksX7_keyTold_4 18 rfl rfl)
theorem dX7_keyTold_112 : decode cX7_keyTold 112 = .ok (.if_icmp .ne 7, 3) := dk_160 0 7 (dk_at dksX7_keyTold_4 19 rfl rfl)
theorem dX7_keyTold_115 : decode cX7_keyTold 115 = .ok (.iconst (-1), 1) := dk_2 (dk_at dksX7_keyTold_4 22 rfl rfl)
theorem dX7_keyTold_116 : decode cX7_keyTold 116 = .ok (.goto 13, 3) := dk_167 0 13 (dk_at dksX7_keyTold_5 0 rfl rfl)
theorem dX7_keyTold_119 : decode cX7_keyTold 119 = .ok (.iload 5, 2) := dk_21 5 (dk_at dksX7_keyTold_5 3 rfl rfl)
theorem dX7_keyTold_121 : decode cX7_keyTold 121 = .ok (.aload_n 0, 1) := dk_42 (dk_at dksX7_keyTold_5 5 rfl rfl)
theorem dX7_keyTold_122 : decode cX7_keyTold 122 = .ok (.getfield 12, 3) := dk_180 0 12 (dk_at dksX7_keyTold_5 6 rfl rfl)
theorem dX7_keyTold_125 : decode cX7_keyTold 125 = .ok (.getfield 145, 3) := dk_180 0 145 (dk_at dksX7_keyTold_5 9 rfl rfl)
theorem dX7_keyTold_128 : decode cX7_keyTold 128 = .ok (.irem, 1) := dk_112 (dk_at dksX7_keyTold_5 12 rfl rfl)
theorem dX7_keyTold_129 : decode cX7_keyTold 129 = .ok (.iastore, 1) := dk_79 (dk_at dksX7_keyTold_5 13 rfl rfl)
theorem dX7_keyTold_130 : decode cX7_keyTold 130 = .ok (.astore 6, 2) := dk_58 6 (dk_at dksX7_keyTold_5 14 rfl rfl)
theorem dX7_keyTold_132 : decode cX7_keyTold 132 = .ok (.aload 6, 2) := dk_25 6 (dk_at dksX7_keyTold_5 16 rfl rfl)
theorem dX7_keyTold_134 : decode cX7_keyTold 134 = .ok (.iload_n 2, 1) := dk_28 (dk_at dksX7_keyTold_5 18 rfl rfl)
theorem dX7_keyTold_135 : decode cX7_keyTold 135 = .ok (.iaload, 1) := dk_46 (dk_at dksX7_keyTold_5 19 rfl rfl)
theorem dX7_keyTold_136 : decode cX7_keyTold 136 = .ok (.ireturn, 1) := dk_172 (dk_at dksX7_keyTold_5 20 rfl rfl)
abbrev cX7_ofFile : ByteArray := prog_15_method_39_code
def yX7_ofFile : MethodName := ⟨RX7, "ofFile", "(I)I"⟩
def dkwX7_ofFile_1 : List UInt8 := [167, 0, 8, 42, 27, 182, 0, 239, 172]
abbrev dktX7_ofFile_1 : List UInt8 := dkwX7_ofFile_1 ++ []
def dkwX7_ofFile_0 : List UInt8 := [42, 27, 3, 16, 21, 184, 0, 55, 154, 0, 7, 4, 167, 0, 4, 3, 4, 182, 0, 105, 153, 0, 7, 3]
abbrev dktX7_ofFile_0 : List UInt8 := dkwX7_ofFile_0 ++ dktX7_ofFile_1
theorem dksX7_ofFile_0 : cX7_ofFile.data.toList.drop 0 = dktX7_ofFile_0 := by decide +kernel
theorem dksX7_ofFile_1 : cX7_ofFile.data.toList.drop 24 = dktX7_ofFile_1 := dk_seg dksX7_ofFile_0 24 rfl rfl
theorem dX7_ofFile_0 : decode cX7_ofFile 0 = .ok (.aload_n 0, 1) := dk_42 (dk_at dksX7_ofFile_0 0 rfl rfl)
theorem dX7_ofFile_1 : decode cX7_ofFile 1 = .ok (.iload_n 1, 1) := dk_27 (dk_at dksX7_ofFile_0 1 rfl rfl)
theorem dX7_ofFile_2 : decode cX7_ofFile 2 = .ok (.iconst 0, 1) := dk_3 (dk_at dksX7_ofFile_0 2 rfl rfl)
theorem dX7_ofFile_3 : decode cX7_ofFile 3 = .ok (.bipush 21, 2) := dk_16 21 (dk_at dksX7_ofFile_0 3 rfl rfl)
theorem dX7_ofFile_5 : decode cX7_ofFile 5 = .ok (.invokestatic 55, 3) := dk_184 0 55 (dk_at dksX7_ofFile_0 5 rfl rfl)
theorem dX7_ofFile_8 : decode cX7_ofFile 8 = .ok (.ifCond .ne 7, 3) := dk_154 0 7 (dk_at dksX7_ofFile_0 8 rfl rfl)
theorem dX7_ofFile_11 : decode cX7_ofFile 11 = .ok (.iconst 1, 1) := dk_4 (dk_at dksX7_ofFile_0 11 rfl rfl)
theorem dX7_ofFile_12 : decode cX7_ofFile 12 = .ok (.goto 4, 3) := dk_167 0 4 (dk_at dksX7_ofFile_0 12 rfl rfl)
theorem dX7_ofFile_15 : decode cX7_ofFile 15 = .ok (.iconst 0, 1) := dk_3 (dk_at dksX7_ofFile_0 15 rfl rfl)
theorem dX7_ofFile_16 : decode cX7_ofFile 16 = .ok (.iconst 1, 1) := dk_4 (dk_at dksX7_ofFile_0 16 rfl rfl)
theorem dX7_ofFile_17 : decode cX7_ofFile 17 = .ok (.invokevirtual 105, 3) := dk_182 0 105 (dk_at dksX7_ofFile_0 17 rfl rfl)
theorem dX7_ofFile_20 : decode cX7_ofFile 20 = .ok (.ifCond .eq 7, 3) := dk_153 0 7 (dk_at dksX7_ofFile_0 20 rfl rfl)
theorem dX7_ofFile_23 : decode cX7_ofFile 23 = .ok (.iconst 0, 1) := dk_3 (dk_at dksX7_ofFile_0 23 rfl rfl)
theorem dX7_ofFile_24 : decode cX7_ofFile 24 = .ok (.goto 8, 3) := dk_167 0 8 (dk_at dksX7_ofFile_1 0 rfl rfl)
theorem dX7_ofFile_27 : decode cX7_ofFile 27 = .ok (.aload_n 0, 1) := dk_42 (dk_at dksX7_ofFile_1 3 rfl rfl)
theorem dX7_ofFile_28 : decode cX7_ofFile 28 = .ok (.iload_n 1, 1) := dk_27 (dk_at dksX7_ofFile_1 4 rfl rfl)
theorem dX7_ofFile_29 : decode cX7_ofFile 29 = .ok (.invokevirtual 239, 3) := dk_182 0 239 (dk_at dksX7_ofFile_1 5 rfl rfl)
theorem dX7_ofFile_32 : decode cX7_ofFile 32 = .ok (.ireturn, 1) := dk_172 (dk_at dksX7_ofFile_1 8 rfl rfl)
abbrev cX7_fileTold : ByteArray := prog_15_method_38_code
def yX7_fileTold : MethodName := ⟨RX7, "fileTold", "(I)I"⟩
def dkwX7_fileTold_9 : List UInt8 := [180, 0, 21, 79, 89, 16, 21, 42, 180, 0, 192, 79, 78, 45, 27, 46, 172]
abbrev dktX7_fileTold_9 : List UInt8 := dkwX7_fileTold_9 ++ []
def dkwX7_fileTold_8 : List UInt8 := [180, 0, 28, 182, 0, 85, 96, 79, 89, 16, 19, 42, 180, 0, 28, 182, 0, 85, 79, 89, 16, 20, 42]
abbrev dktX7_fileTold_8 : List UInt8 := dkwX7_fileTold_8 ++ dktX7_fileTold_9
def dkwX7_fileTold_7 : List UInt8 := [16, 16, 42, 180, 0, 181, 79, 89, 16, 17, 42, 180, 0, 189, 79, 89, 16, 18, 42, 180, 0, 82, 42]
abbrev dktX7_fileTold_7 : List UInt8 := dkwX7_fileTold_7 ++ dktX7_fileTold_8
def dkwX7_fileTold_6 : List UInt8 := [180, 0, 12, 180, 0, 236, 79, 89, 16, 14, 42, 180, 0, 139, 79, 89, 16, 15, 42, 180, 0, 148, 79, 89]
abbrev dktX7_fileTold_6 : List UInt8 := dkwX7_fileTold_6 ++ dktX7_fileTold_7
def dkwX7_fileTold_5 : List UInt8 := [42, 180, 0, 12, 182, 0, 230, 79, 89, 16, 12, 42, 180, 0, 12, 180, 0, 233, 79, 89, 16, 13, 42]
abbrev dktX7_fileTold_5 : List UInt8 := dkwX7_fileTold_5 ++ dktX7_fileTold_6
def dkwX7_fileTold_4 : List UInt8 := [16, 9, 42, 180, 0, 12, 180, 0, 225, 79, 89, 16, 10, 42, 180, 0, 12, 182, 0, 228, 79, 89, 16, 11]
abbrev dktX7_fileTold_4 : List UInt8 := dkwX7_fileTold_4 ++ dktX7_fileTold_5
def dkwX7_fileTold_3 : List UInt8 := [79, 89, 16, 7, 42, 180, 0, 12, 180, 0, 145, 79, 89, 16, 8, 42, 180, 0, 12, 180, 0, 222, 79, 89]
abbrev dktX7_fileTold_3 : List UInt8 := dkwX7_fileTold_3 ++ dktX7_fileTold_4
def dkwX7_fileTold_2 : List UInt8 := [182, 0, 213, 79, 89, 8, 42, 180, 0, 12, 180, 0, 216, 79, 89, 16, 6, 42, 180, 0, 12, 180, 0, 219]
abbrev dktX7_fileTold_2 : List UInt8 := dkwX7_fileTold_2 ++ dktX7_fileTold_3
def dkwX7_fileTold_1 : List UInt8 := [28, 79, 89, 5, 28, 184, 0, 207, 79, 89, 6, 28, 184, 0, 210, 79, 89, 7, 42, 180, 0, 12]
abbrev dktX7_fileTold_1 : List UInt8 := dkwX7_fileTold_1 ++ dktX7_fileTold_2
def dkwX7_fileTold_0 : List UInt8 := [42, 180, 0, 12, 182, 0, 59, 61, 16, 22, 188, 10, 89, 3, 42, 180, 0, 12, 182, 0, 108, 79, 89, 4]
abbrev dktX7_fileTold_0 : List UInt8 := dkwX7_fileTold_0 ++ dktX7_fileTold_1
theorem dksX7_fileTold_0 : cX7_fileTold.data.toList.drop 0 = dktX7_fileTold_0 := by decide +kernel
theorem dksX7_fileTold_1 : cX7_fileTold.data.toList.drop 24 = dktX7_fileTold_1 := dk_seg dksX7_fileTold_0 24 rfl rfl
theorem dksX7_fileTold_2 : cX7_fileTold.data.toList.drop 46 = dktX7_fileTold_2 := dk_seg dksX7_fileTold_1 22 rfl rfl
theorem dksX7_fileTold_3 : cX7_fileTold.data.toList.drop 70 = dktX7_fileTold_3 := dk_seg dksX7_fileTold_2 24 rfl rfl
theorem dksX7_fileTold_4 : cX7_fileTold.data.toList.drop 94 = dktX7_fileTold_4 := dk_seg dksX7_fileTold_3 24 rfl rfl
theorem dksX7_fileTold_5 : cX7_fileTold.data.toList.drop 118 = dktX7_fileTold_5 := dk_seg dksX7_fileTold_4 24 rfl rfl
theorem dksX7_fileTold_6 : cX7_fileTold.data.toList.drop 141 = dktX7_fileTold_6 := dk_seg dksX7_fileTold_5 23 rfl rfl
theorem dksX7_fileTold_7 : cX7_fileTold.data.toList.drop 165 = dktX7_fileTold_7 := dk_seg dksX7_fileTold_6 24 rfl rfl
theorem dksX7_fileTold_8 : cX7_fileTold.data.toList.drop 188 = dktX7_fileTold_8 := dk_seg dksX7_fileTold_7 23 rfl rfl
theorem dksX7_fileTold_9 : cX7_fileTold.data.toList.drop 211 = dktX7_fileTold_9 := dk_seg dksX7_fileTold_8 23 rfl rfl
theorem dX7_fileTold_0 : decode cX7_fileTold 0 = .ok (.aload_n 0, 1) := dk_42 (dk_at dksX7_fileTold_0 0 rfl rfl)
theorem dX7_fileTold_1 : decode cX7_fileTold 1 = .ok (.getfield 12, 3) := dk_180 0 12 (dk_at dksX7_fileTold_0 1 rfl rfl)
theorem dX7_fileTold_4 : decode cX7_fileTold 4 = .ok (.invokevirtual 59, 3) := dk_182 0 59 (dk_at dksX7_fileTold_0 4 rfl rfl)
theorem dX7_fileTold_7 : decode cX7_fileTold 7 = .ok (.istore_n 2, 1) := dk_61 (dk_at dksX7_fileTold_0 7 rfl rfl)
theorem dX7_fileTold_8 : decode cX7_fileTold 8 = .ok (.bipush 22, 2) := dk_16 22 (dk_at dksX7_fileTold_0 8 rfl rfl)
theorem dX7_fileTold_10 : decode cX7_fileTold 10 = .ok (.newarray .int, 2) := dk_188_10 (dk_at dksX7_fileTold_0 10 rfl rfl)
theorem dX7_fileTold_12 : decode cX7_fileTold 12 = .ok (.dup, 1) := dk_89 (dk_at dksX7_fileTold_0 12 rfl rfl)
theorem dX7_fileTold_13 : decode cX7_fileTold 13 = .ok (.iconst 0, 1) := dk_3 (dk_at dksX7_fileTold_0 13 rfl rfl)
theorem dX7_fileTold_14 : decode cX7_fileTold 14 = .ok (.aload_n 0, 1) := dk_42 (dk_at dksX7_fileTold_0 14 rfl rfl)
theorem dX7_fileTold_15 : decode cX7_fileTold 15 = .ok (.getfield 12, 3) := dk_180 0 12 (dk_at dksX7_fileTold_0 15 rfl rfl)
theorem dX7_fileTold_18 : decode cX7_fileTold 18 = .ok (.invokevirtual 108, 3) := dk_182 0 108 (dk_at dksX7_fileTold_0 18 rfl rfl)
theorem dX7_fileTold_21 : decode cX7_fileTold 21 = .ok (.iastore, 1) := dk_79 (dk_at dksX7_fileTold_0 21 rfl rfl)
theorem dX7_fileTold_22 : decode cX7_fileTold 22 = .ok (.dup, 1) := dk_89 (dk_at dksX7_fileTold_0 22 rfl rfl)
theorem dX7_fileTold_23 : decode cX7_fileTold 23 = .ok (.iconst 1, 1) := dk_4 (dk_at dksX7_fileTold_0 23 rfl rfl)
theorem dX7_fileTold_24 : decode cX7_fileTold 24 = .ok (.iload_n 2, 1) := dk_28 (dk_at dksX7_fileTold_1 0 rfl rfl)
theorem dX7_fileTold_25 : decode cX7_fileTold 25 = .ok (.iastore, 1) := dk_79 (dk_at dksX7_fileTold_1 1 rfl rfl)
theorem dX7_fileTold_26 : decode cX7_fileTold 26 = .ok (.dup, 1) := dk_89 (dk_at dksX7_fileTold_1 2 rfl rfl)
theorem dX7_fileTold_27 : decode cX7_fileTold 27 = .ok (.iconst 2, 1) := dk_5 (dk_at dksX7_fileTold_1 3 rfl rfl)
theorem dX7_fileTold_28 : decode cX7_fileTold 28 = .ok (.iload_n 2, 1) := dk_28 (dk_at dksX7_fileTold_1 4 rfl rfl)
theorem dX7_fileTold_29 : decode cX7_fileTold 29 = .ok (.invokestatic 207, 3) := dk_184 0 207 (dk_at dksX7_fileTold_1 5 rfl rfl)
theorem dX7_fileTold_32 : decode cX7_fileTold 32 = .ok (.iastore, 1) := dk_79 (dk_at dksX7_fileTold_1 8 rfl rfl)
theorem dX7_fileTold_33 : decode cX7_fileTold 33 = .ok (.dup, 1) := dk_89 (dk_at dksX7_fileTold_1 9 rfl rfl)
theorem dX7_fileTold_34 : decode cX7_fileTold 34 = .ok (.iconst 3, 1) := dk_6 (dk_at dksX7_fileTold_1 10 rfl rfl)
theorem dX7_fileTold_35 : decode cX7_fileTold 35 = .ok (.iload_n 2, 1) := dk_28 (dk_at dksX7_fileTold_1 11 rfl rfl)
theorem dX7_fileTold_36 : decode cX7_fileTold 36 = .ok (.invokestatic 210, 3) := dk_184 0 210 (dk_at dksX7_fileTold_1 12 rfl rfl)
theorem dX7_fileTold_39 : decode cX7_fileTold 39 = .ok (.iastore, 1) := dk_79 (dk_at dksX7_fileTold_1 15 rfl rfl)
theorem dX7_fileTold_40 : decode cX7_fileTold 40 = .ok (.dup, 1) := dk_89 (dk_at dksX7_fileTold_1 16 rfl rfl)
theorem dX7_fileTold_41 : decode cX7_fileTold 41 = .ok (.iconst 4, 1) := dk_7 (dk_at dksX7_fileTold_1 17 rfl rfl)
theorem dX7_fileTold_42 : decode cX7_fileTold 42 = .ok (.aload_n 0, 1) := dk_42 (dk_at dksX7_fileTold_1 18 rfl rfl)
theorem dX7_fileTold_43 : decode cX7_fileTold 43 = .ok (.getfield 12, 3) := dk_180 0 12 (dk_at dksX7_fileTold_1 19 rfl rfl)
theorem dX7_fileTold_46 : decode cX7_fileTold 46 = .ok (.invokevirtual 213, 3) := dk_182 0 213 (dk_at dksX7_fileTold_2 0 rfl rfl)
theorem dX7_fileTold_49 : decode cX7_fileTold 49 = .ok (.iastore, 1) := dk_79 (dk_at dksX7_fileTold_2 3 rfl rfl)
theorem dX7_fileTold_50 : decode cX7_fileTold 50 = .ok (.dup, 1) := dk_89 (dk_at dksX7_fileTold_2 4 rfl rfl)
theorem dX7_fileTold_51 : decode cX7_fileTold 51 = .ok (.iconst 5, 1) := dk_8 (dk_at dksX7_fileTold_2 5 rfl rfl)
theorem dX7_fileTold_52 : decode cX7_fileTold 52 = .ok (.aload_n 0, 1) := dk_42 (dk_at dksX7_fileTold_2 6 rfl rfl)
theorem dX7_fileTold_53 : decode cX7_fileTold 53 = .ok (.getfield 12, 3) := dk_180 0 12 (dk_at dksX7_fileTold_2 7 rfl rfl)
theorem dX7_fileTold_56 : decode cX7_fileTold 56 = .ok (.getfield 216, 3) := dk_180 0 216 (dk_at dksX7_fileTold_2 10 rfl rfl)
theorem dX7_fileTold_59 : decode cX7_fileTold 59 = .ok (.iastore, 1) := dk_79 (dk_at dksX7_fileTold_2 13 rfl rfl)
theorem dX7_fileTold_60 : decode cX7_fileTold 60 = .ok (.dup, 1) := dk_89 (dk_at dksX7_fileTold_2 14 rfl rfl)
theorem dX7_fileTold_61 : decode cX7_fileTold 61 = .ok (.bipush 6, 2) := dk_16 6 (dk_at dksX7_fileTold_2 15 rfl rfl)
theorem dX7_fileTold_63 : decode cX7_fileTold 63 = .ok (.aload_n 0, 1) := dk_42 (dk_at dksX7_fileTold_2 17 rfl rfl)
theorem dX7_fileTold_64 : decode cX7_fileTold 64 = .ok (.getfield 12, 3) := dk_180 0 12 (dk_at dksX7_fileTold_2 18 rfl rfl)
theorem dX7_fileTold_67 : decode cX7_fileTold 67 = .ok (.getfield 219, 3) := dk_180 0 219 (dk_at dksX7_fileTold_2 21 rfl rfl)
theorem dX7_fileTold_70 : decode cX7_fileTold 70 = .ok (.iastore, 1) := dk_79 (dk_at dksX7_fileTold_3 0 rfl rfl)
theorem dX7_fileTold_71 : decode cX7_fileTold 71 = .ok (.dup, 1) := dk_89 (dk_at dksX7_fileTold_3 1 rfl rfl)
theorem dX7_fileTold_72 : decode cX7_fileTold 72 = .ok (.bipush 7, 2) := dk_16 7 (dk_at dksX7_fileTold_3 2 rfl rfl)
theorem dX7_fileTold_74 : decode cX7_fileTold 74 = .ok (.aload_n 0, 1) := dk_42 (dk_at dksX7_fileTold_3 4 rfl rfl)
theorem dX7_fileTold_75 : decode cX7_fileTold 75 = .ok (.getfield 12, 3) := dk_180 0 12 (dk_at dksX7_fileTold_3 5 rfl rfl)
theorem dX7_fileTold_78 : decode cX7_fileTold 78 = .ok (.getfield 145, 3) := dk_180 0 145 (dk_at dksX7_fileTold_3 8 rfl rfl)
theorem dX7_fileTold_81 : decode cX7_fileTold 81 = .ok (.iastore, 1) := dk_79 (dk_at dksX7_fileTold_3 11 rfl rfl)
theorem dX7_fileTold_82 : decode cX7_fileTold 82 = .ok (.dup, 1) := dk_89 (dk_at dksX7_fileTold_3 12 rfl rfl)
theorem dX7_fileTold_83 : decode cX7_fileTold 83 = .ok (.bipush 8, 2) := dk_16 8 (dk_at dksX7_fileTold_3 13 rfl rfl)
theorem dX7_fileTold_85 : decode cX7_fileTold 85 = .ok (.aload_n 0, 1) := dk_42 (dk_at dksX7_fileTold_3 15 rfl rfl)
theorem dX7_fileTold_86 : decode cX7_fileTold 86 = .ok (.getfield 12, 3) := dk_180 0 12 (dk_at dksX7_fileTold_3 16 rfl rfl)
theorem dX7_fileTold_89 : decode cX7_fileTold 89 = .ok (.getfield 222, 3) := dk_180 0 222 (dk_at dksX7_fileTold_3 19 rfl rfl)
theorem dX7_fileTold_92 : decode cX7_fileTold 92 = .ok (.iastore, 1) := dk_79 (dk_at dksX7_fileTold_3 22 rfl rfl)
theorem dX7_fileTold_93 : decode cX7_fileTold 93 = .ok (.dup, 1) := dk_89 (dk_at dksX7_fileTold_3 23 rfl rfl)
theorem dX7_fileTold_94 : decode cX7_fileTold 94 = .ok (.bipush 9, 2) := dk_16 9 (dk_at dksX7_fileTold_4 0 rfl rfl)
theorem dX7_fileTold_96 : decode cX7_fileTold 96 = .ok (.aload_n 0, 1) := dk_42 (dk_at dksX7_fileTold_4 2 rfl rfl)
theorem dX7_fileTold_97 : decode cX7_fileTold 97 = .ok (.getfield 12, 3) := dk_180 0 12 (dk_at dksX7_fileTold_4 3 rfl rfl)
theorem dX7_fileTold_100 : decode cX7_fileTold 100 = .ok (.getfield 225, 3) := dk_180 0 225 (dk_at dksX7_fileTold_4 6 rfl rfl)
theorem dX7_fileTold_103 : decode cX7_fileTold 103 = .ok (.iastore, 1) := dk_79 (dk_at dksX7_fileTold_4 9 rfl rfl)
theorem dX7_fileTold_104 : decode cX7_fileTold 104 = .ok (.dup, 1) := dk_89 (dk_at dksX7_fileTold_4 10 rfl rfl)
theorem dX7_fileTold_105 : decode cX7_fileTold 105 = .ok (.bipush 10, 2) := dk_16 10 (dk_at dksX7_fileTold_4 11 rfl rfl)
theorem dX7_fileTold_107 : decode cX7_fileTold 107 = .ok (.aload_n 0, 1) := dk_42 (dk_at dksX7_fileTold_4 13 rfl rfl)
theorem dX7_fileTold_108 : decode cX7_fileTold 108 = .ok (.getfield 12, 3) := dk_180 0 12 (dk_at dksX7_fileTold_4 14 rfl rfl)
theorem dX7_fileTold_111 : decode cX7_fileTold 111 = .ok (.invokevirtual 228, 3) := dk_182 0 228 (dk_at dksX7_fileTold_4 17 rfl rfl)
theorem dX7_fileTold_114 : decode cX7_fileTold 114 = .ok (.iastore, 1) := dk_79 (dk_at dksX7_fileTold_4 20 rfl rfl)
theorem dX7_fileTold_115 : decode cX7_fileTold 115 = .ok (.dup, 1) := dk_89 (dk_at dksX7_fileTold_4 21 rfl rfl)
theorem dX7_fileTold_116 : decode cX7_fileTold 116 = .ok (.bipush 11, 2) := dk_16 11 (dk_at dksX7_fileTold_4 22 rfl rfl)
theorem dX7_fileTold_118 : decode cX7_fileTold 118 = .ok (.aload_n 0, 1) := dk_42 (dk_at dksX7_fileTold_5 0 rfl rfl)
theorem dX7_fileTold_119 : decode cX7_fileTold 119 = .ok (.getfield 12, 3) := dk_180 0 12 (dk_at dksX7_fileTold_5 1 rfl rfl)
theorem dX7_fileTold_122 : decode cX7_fileTold 122 = .ok (.invokevirtual 230, 3) := dk_182 0 230 (dk_at dksX7_fileTold_5 4 rfl rfl)
theorem dX7_fileTold_125 : decode cX7_fileTold 125 = .ok (.iastore, 1) := dk_79 (dk_at dksX7_fileTold_5 7 rfl rfl)
theorem dX7_fileTold_126 : decode cX7_fileTold 126 = .ok (.dup, 1) := dk_89 (dk_at dksX7_fileTold_5 8 rfl rfl)
theorem dX7_fileTold_127 : decode cX7_fileTold 127 = .ok (.bipush 12, 2) := dk_16 12 (dk_at dksX7_fileTold_5 9 rfl rfl)
theorem dX7_fileTold_129 : decode cX7_fileTold 129 = .ok (.aload_n 0, 1) := dk_42 (dk_at dksX7_fileTold_5 11 rfl rfl)
theorem dX7_fileTold_130 : decode cX7_fileTold 130 = .ok (.getfield 12, 3) := dk_180 0 12 (dk_at dksX7_fileTold_5 12 rfl rfl)
theorem dX7_fileTold_133 : decode cX7_fileTold 133 = .ok (.getfield 233, 3) := dk_180 0 233 (dk_at dksX7_fileTold_5 15 rfl rfl)
theorem dX7_fileTold_136 : decode cX7_fileTold 136 = .ok (.iastore, 1) := dk_79 (dk_at dksX7_fileTold_5 18 rfl rfl)
theorem dX7_fileTold_137 : decode cX7_fileTold 137 = .ok (.dup, 1) := dk_89 (dk_at dksX7_fileTold_5 19 rfl rfl)
theorem dX7_fileTold_138 : decode cX7_fileTold 138 = .ok (.bipush 13, 2) := dk_16 13 (dk_at dksX7_fileTold_5 20 rfl rfl)
theorem dX7_fileTold_140 : decode cX7_fileTold 140 = .ok (.aload_n 0, 1) := dk_42 (dk_at dksX7_fileTold_5 22 rfl rfl)
theorem dX7_fileTold_141 : decode cX7_fileTold 141 = .ok (.getfield 12, 3) := dk_180 0 12 (dk_at dksX7_fileTold_6 0 rfl rfl)
theorem dX7_fileTold_144 : decode cX7_fileTold 144 = .ok (.getfield 236, 3) := dk_180 0 236 (dk_at dksX7_fileTold_6 3 rfl rfl)
theorem dX7_fileTold_147 : decode cX7_fileTold 147 = .ok (.iastore, 1) := dk_79 (dk_at dksX7_fileTold_6 6 rfl rfl)
theorem dX7_fileTold_148 : decode cX7_fileTold 148 = .ok (.dup, 1) := dk_89 (dk_at dksX7_fileTold_6 7 rfl rfl)
theorem dX7_fileTold_149 : decode cX7_fileTold 149 = .ok (.bipush 14, 2) := dk_16 14 (dk_at dksX7_fileTold_6 8 rfl rfl)
theorem dX7_fileTold_151 : decode cX7_fileTold 151 = .ok (.aload_n 0, 1) := dk_42 (dk_at dksX7_fileTold_6 10 rfl rfl)
theorem dX7_fileTold_152 : decode cX7_fileTold 152 = .ok (.getfield 139, 3) := dk_180 0 139 (dk_at dksX7_fileTold_6 11 rfl rfl)
theorem dX7_fileTold_155 : decode cX7_fileTold 155 = .ok (.iastore, 1) := dk_79 (dk_at dksX7_fileTold_6 14 rfl rfl)
theorem dX7_fileTold_156 : decode cX7_fileTold 156 = .ok (.dup, 1) := dk_89 (dk_at dksX7_fileTold_6 15 rfl rfl)
theorem dX7_fileTold_157 : decode cX7_fileTold 157 = .ok (.bipush 15, 2) := dk_16 15 (dk_at dksX7_fileTold_6 16 rfl rfl)
theorem dX7_fileTold_159 : decode cX7_fileTold 159 = .ok (.aload_n 0, 1) := dk_42 (dk_at dksX7_fileTold_6 18 rfl rfl)
theorem dX7_fileTold_160 : decode cX7_fileTold 160 = .ok (.getfield 148, 3) := dk_180 0 148 (dk_at dksX7_fileTold_6 19 rfl rfl)
theorem dX7_fileTold_163 : decode cX7_fileTold 163 = .ok (.iastore, 1) := dk_79 (dk_at dksX7_fileTold_6 22 rfl rfl)
theorem dX7_fileTold_164 : decode cX7_fileTold 164 = .ok (.dup, 1) := dk_89 (dk_at dksX7_fileTold_6 23 rfl rfl)
theorem dX7_fileTold_165 : decode cX7_fileTold 165 = .ok (.bipush 16, 2) := dk_16 16 (dk_at dksX7_fileTold_7 0 rfl rfl)
theorem dX7_fileTold_167 : decode cX7_fileTold 167 = .ok (.aload_n 0, 1) := dk_42 (dk_at dksX7_fileTold_7 2 rfl rfl)
theorem dX7_fileTold_168 : decode cX7_fileTold 168 = .ok (.getfield 181, 3) := dk_180 0 181 (dk_at dksX7_fileTold_7 3 rfl rfl)
theorem dX7_fileTold_171 : decode cX7_fileTold 171 = .ok (.iastore, 1) := dk_79 (dk_at dksX7_fileTold_7 6 rfl rfl)
theorem dX7_fileTold_172 : decode cX7_fileTold 172 = .ok (.dup, 1) := dk_89 (dk_at dksX7_fileTold_7 7 rfl rfl)
theorem dX7_fileTold_173 : decode cX7_fileTold 173 = .ok (.bipush 17, 2) := dk_16 17 (dk_at dksX7_fileTold_7 8 rfl rfl)
theorem dX7_fileTold_175 : decode cX7_fileTold 175 = .ok (.aload_n 0, 1) := dk_42 (dk_at dksX7_fileTold_7 10 rfl rfl)
theorem dX7_fileTold_176 : decode cX7_fileTold 176 = .ok (.getfield 189, 3) := dk_180 0 189 (dk_at dksX7_fileTold_7 11 rfl rfl)
theorem dX7_fileTold_179 : decode cX7_fileTold 179 = .ok (.iastore, 1) := dk_79 (dk_at dksX7_fileTold_7 14 rfl rfl)
theorem dX7_fileTold_180 : decode cX7_fileTold 180 = .ok (.dup, 1) := dk_89 (dk_at dksX7_fileTold_7 15 rfl rfl)
theorem dX7_fileTold_181 : decode cX7_fileTold 181 = .ok (.bipush 18, 2) := dk_16 18 (dk_at dksX7_fileTold_7 16 rfl rfl)
theorem dX7_fileTold_183 : decode cX7_fileTold 183 = .ok (.aload_n 0, 1) := dk_42 (dk_at dksX7_fileTold_7 18 rfl rfl)
theorem dX7_fileTold_184 : decode cX7_fileTold 184 = .ok (.getfield 82, 3) := dk_180 0 82 (dk_at dksX7_fileTold_7 19 rfl rfl)
theorem dX7_fileTold_187 : decode cX7_fileTold 187 = .ok (.aload_n 0, 1) := dk_42 (dk_at dksX7_fileTold_7 22 rfl rfl)
theorem dX7_fileTold_188 : decode cX7_fileTold 188 = .ok (.getfield 28, 3) := dk_180 0 28 (dk_at dksX7_fileTold_8 0 rfl rfl)
theorem dX7_fileTold_191 : decode cX7_fileTold 191 = .ok (.invokevirtual 85, 3) := dk_182 0 85 (dk_at dksX7_fileTold_8 3 rfl rfl)
theorem dX7_fileTold_194 : decode cX7_fileTold 194 = .ok (.iadd, 1) := dk_96 (dk_at dksX7_fileTold_8 6 rfl rfl)
theorem dX7_fileTold_195 : decode cX7_fileTold 195 = .ok (.iastore, 1) := dk_79 (dk_at dksX7_fileTold_8 7 rfl rfl)
theorem dX7_fileTold_196 : decode cX7_fileTold 196 = .ok (.dup, 1) := dk_89 (dk_at dksX7_fileTold_8 8 rfl rfl)
theorem dX7_fileTold_197 : decode cX7_fileTold 197 = .ok (.bipush 19, 2) := dk_16 19 (dk_at dksX7_fileTold_8 9 rfl rfl)
theorem dX7_fileTold_199 : decode cX7_fileTold 199 = .ok (.aload_n 0, 1) := dk_42 (dk_at dksX7_fileTold_8 11 rfl rfl)
theorem dX7_fileTold_200 : decode cX7_fileTold 200 = .ok (.getfield 28, 3) := dk_180 0 28 (dk_at dksX7_fileTold_8 12 rfl rfl)
theorem dX7_fileTold_203 : decode cX7_fileTold 203 = .ok (.invokevirtual 85, 3) := dk_182 0 85 (dk_at dksX7_fileTold_8 15 rfl rfl)
theorem dX7_fileTold_206 : decode cX7_fileTold 206 = .ok (.iastore, 1) := dk_79 (dk_at dksX7_fileTold_8 18 rfl rfl)
theorem dX7_fileTold_207 : decode cX7_fileTold 207 = .ok (.dup, 1) := dk_89 (dk_at dksX7_fileTold_8 19 rfl rfl)
theorem dX7_fileTold_208 : decode cX7_fileTold 208 = .ok (.bipush 20, 2) := dk_16 20 (dk_at dksX7_fileTold_8 20 rfl rfl)
theorem dX7_fileTold_210 : decode cX7_fileTold 210 = .ok (.aload_n 0, 1) := dk_42 (dk_at dksX7_fileTold_8 22 rfl rfl)
theorem dX7_fileTold_211 : decode cX7_fileTold 211 = .ok (.getfield 21, 3) := dk_180 0 21 (dk_at dksX7_fileTold_9 0 rfl rfl)
theorem dX7_fileTold_214 : decode cX7_fileTold 214 = .ok (.iastore, 1) := dk_79 (dk_at dksX7_fileTold_9 3 rfl rfl)
theorem dX7_fileTold_215 : decode cX7_fileTold 215 = .ok (.dup, 1) := dk_89 (dk_at dksX7_fileTold_9 4 rfl rfl)
theorem dX7_fileTold_216 : decode cX7_fileTold 216 = .ok (.bipush 21, 2) := dk_16 21 (dk_at dksX7_fileTold_9 5 rfl rfl)
theorem dX7_fileTold_218 : decode cX7_fileTold 218 = .ok (.aload_n 0, 1) := dk_42 (dk_at dksX7_fileTold_9 7 rfl rfl)
theorem dX7_fileTold_219 : decode cX7_fileTold 219 = .ok (.getfield 192, 3) := dk_180 0 192 (dk_at dksX7_fileTold_9 8 rfl rfl)
theorem dX7_fileTold_222 : decode cX7_fileTold 222 = .ok (.iastore, 1) := dk_79 (dk_at dksX7_fileTold_9 11 rfl rfl)
theorem dX7_fileTold_223 : decode cX7_fileTold 223 = .ok (.astore_n 3, 1) := dk_78 (dk_at dksX7_fileTold_9 12 rfl rfl)
theorem dX7_fileTold_224 : decode cX7_fileTold 224 = .ok (.aload_n 3, 1) := dk_45 (dk_at dksX7_fileTold_9 13 rfl rfl)
theorem dX7_fileTold_225 : decode cX7_fileTold 225 = .ok (.iload_n 1, 1) := dk_27 (dk_at dksX7_fileTold_9 14 rfl rfl)
theorem dX7_fileTold_226 : decode cX7_fileTold 226 = .ok (.iaload, 1) := dk_46 (dk_at dksX7_fileTold_9 15 rfl rfl)
theorem dX7_fileTold_227 : decode cX7_fileTold 227 = .ok (.ireturn, 1) := dk_172 (dk_at dksX7_fileTold_9 16 rfl rfl)
abbrev cX7_level : ByteArray := prog_15_method_4_code
def yX7_level : MethodName := ⟨RX7, "level", "(I)I"⟩
def dkwX7_level_0 : List UInt8 := [26, 184, 0, 39, 184, 0, 45, 4, 100, 172]
abbrev dktX7_level_0 : List UInt8 := dkwX7_level_0 ++ []
theorem dksX7_level_0 : cX7_level.data.toList.drop 0 = dktX7_level_0 := by decide +kernel
theorem dX7_level_0 : decode cX7_level 0 = .ok (.iload_n 0, 1) := dk_26 (dk_at dksX7_level_0 0 rfl rfl)
theorem dX7_level_1 : decode cX7_level 1 = .ok (.invokestatic 39, 3) := dk_184 0 39 (dk_at dksX7_level_0 1 rfl rfl)
theorem dX7_level_4 : decode cX7_level 4 = .ok (.invokestatic 45, 3) := dk_184 0 45 (dk_at dksX7_level_0 4 rfl rfl)
theorem dX7_level_7 : decode cX7_level 7 = .ok (.iconst 1, 1) := dk_4 (dk_at dksX7_level_0 7 rfl rfl)
theorem dX7_level_8 : decode cX7_level 8 = .ok (.isub, 1) := dk_100 (dk_at dksX7_level_0 8 rfl rfl)
theorem dX7_level_9 : decode cX7_level 9 = .ok (.ireturn, 1) := dk_172 (dk_at dksX7_level_0 9 rfl rfl)
abbrev cX7_ofBucket : ByteArray := prog_15_method_41_code
def yX7_ofBucket : MethodName := ⟨RX7, "ofBucket", "(II)I"⟩
def dkwX7_ofBucket_1 : List UInt8 := [167, 0, 4, 3, 5, 182, 0, 51, 153, 0, 7, 3, 167, 0, 9, 42, 27, 28, 182, 0, 254, 172]
abbrev dktX7_ofBucket_1 : List UInt8 := dkwX7_ofBucket_1 ++ []
def dkwX7_ofBucket_0 : List UInt8 := [42, 42, 27, 182, 0, 251, 4, 182, 0, 105, 154, 0, 25, 42, 28, 3, 8, 184, 0, 55, 154, 0, 7, 4]
abbrev dktX7_ofBucket_0 : List UInt8 := dkwX7_ofBucket_0 ++ dktX7_ofBucket_1
theorem dksX7_ofBucket_0 : cX7_ofBucket.data.toList.drop 0 = dktX7_ofBucket_0 := by decide +kernel
theorem dksX7_ofBucket_1 : cX7_ofBucket.data.toList.drop 24 = dktX7_ofBucket_1 := dk_seg dksX7_ofBucket_0 24 rfl rfl
theorem dX7_ofBucket_0 : decode cX7_ofBucket 0 = .ok (.aload_n 0, 1) := dk_42 (dk_at dksX7_ofBucket_0 0 rfl rfl)
theorem dX7_ofBucket_1 : decode cX7_ofBucket 1 = .ok (.aload_n 0, 1) := dk_42 (dk_at dksX7_ofBucket_0 1 rfl rfl)
theorem dX7_ofBucket_2 : decode cX7_ofBucket 2 = .ok (.iload_n 1, 1) := dk_27 (dk_at dksX7_ofBucket_0 2 rfl rfl)
theorem dX7_ofBucket_3 : decode cX7_ofBucket 3 = .ok (.invokevirtual 251, 3) := dk_182 0 251 (dk_at dksX7_ofBucket_0 3 rfl rfl)
theorem dX7_ofBucket_6 : decode cX7_ofBucket 6 = .ok (.iconst 1, 1) := dk_4 (dk_at dksX7_ofBucket_0 6 rfl rfl)
theorem dX7_ofBucket_7 : decode cX7_ofBucket 7 = .ok (.invokevirtual 105, 3) := dk_182 0 105 (dk_at dksX7_ofBucket_0 7 rfl rfl)
theorem dX7_ofBucket_10 : decode cX7_ofBucket 10 = .ok (.ifCond .ne 25, 3) := dk_154 0 25 (dk_at dksX7_ofBucket_0 10 rfl rfl)
theorem dX7_ofBucket_13 : decode cX7_ofBucket 13 = .ok (.aload_n 0, 1) := dk_42 (dk_at dksX7_ofBucket_0 13 rfl rfl)
theorem dX7_ofBucket_14 : decode cX7_ofBucket 14 = .ok (.iload_n 2, 1) := dk_28 (dk_at dksX7_ofBucket_0 14 rfl rfl)
theorem dX7_ofBucket_15 : decode cX7_ofBucket 15 = .ok (.iconst 0, 1) := dk_3 (dk_at dksX7_ofBucket_0 15 rfl rfl)
theorem dX7_ofBucket_16 : decode cX7_ofBucket 16 = .ok (.iconst 5, 1) := dk_8 (dk_at dksX7_ofBucket_0 16 rfl rfl)
theorem dX7_ofBucket_17 : decode cX7_ofBucket 17 = .ok (.invokestatic 55, 3) := dk_184 0 55 (dk_at dksX7_ofBucket_0 17 rfl rfl)
theorem dX7_ofBucket_20 : decode cX7_ofBucket 20 = .ok (.ifCond .ne 7, 3) := dk_154 0 7 (dk_at dksX7_ofBucket_0 20 rfl rfl)
theorem dX7_ofBucket_23 : decode cX7_ofBucket 23 = .ok (.iconst 1, 1) := dk_4 (dk_at dksX7_ofBucket_0 23 rfl rfl)
theorem dX7_ofBucket_24 : decode cX7_ofBucket 24 = .ok (.goto 4, 3) := dk_167 0 4 (dk_at dksX7_ofBucket_1 0 rfl rfl)
theorem dX7_ofBucket_27 : decode cX7_ofBucket 27 = .ok (.iconst 0, 1) := dk_3 (dk_at dksX7_ofBucket_1 3 rfl rfl)
theorem dX7_ofBucket_28 : decode cX7_ofBucket 28 = .ok (.iconst 2, 1) := dk_5 (dk_at dksX7_ofBucket_1 4 rfl rfl)
theorem dX7_ofBucket_29 : decode cX7_ofBucket 29 = .ok (.invokevirtual 51, 3) := dk_182 0 51 (dk_at dksX7_ofBucket_1 5 rfl rfl)
theorem dX7_ofBucket_32 : decode cX7_ofBucket 32 = .ok (.ifCond .eq 7, 3) := dk_153 0 7 (dk_at dksX7_ofBucket_1 8 rfl rfl)
theorem dX7_ofBucket_35 : decode cX7_ofBucket 35 = .ok (.iconst 0, 1) := dk_3 (dk_at dksX7_ofBucket_1 11 rfl rfl)
theorem dX7_ofBucket_36 : decode cX7_ofBucket 36 = .ok (.goto 9, 3) := dk_167 0 9 (dk_at dksX7_ofBucket_1 12 rfl rfl)
theorem dX7_ofBucket_39 : decode cX7_ofBucket 39 = .ok (.aload_n 0, 1) := dk_42 (dk_at dksX7_ofBucket_1 15 rfl rfl)
theorem dX7_ofBucket_40 : decode cX7_ofBucket 40 = .ok (.iload_n 1, 1) := dk_27 (dk_at dksX7_ofBucket_1 16 rfl rfl)
theorem dX7_ofBucket_41 : decode cX7_ofBucket 41 = .ok (.iload_n 2, 1) := dk_28 (dk_at dksX7_ofBucket_1 17 rfl rfl)
theorem dX7_ofBucket_42 : decode cX7_ofBucket 42 = .ok (.invokevirtual 254, 3) := dk_182 0 254 (dk_at dksX7_ofBucket_1 18 rfl rfl)
theorem dX7_ofBucket_45 : decode cX7_ofBucket 45 = .ok (.ireturn, 1) := dk_172 (dk_at dksX7_ofBucket_1 21 rfl rfl)
abbrev cX7_isNoBucket : ByteArray := prog_15_method_16_code
def yX7_isNoBucket : MethodName := ⟨RX7, "isNoBucket", "(I)Z"⟩
def dkwX7_isNoBucket_0 : List UInt8 := [27, 3, 42, 180, 0, 12, 182, 0, 59, 4, 100, 184, 0, 55, 154, 0, 7, 4, 167, 0, 4, 3, 172]
abbrev dktX7_isNoBucket_0 : List UInt8 := dkwX7_isNoBucket_0 ++ []
theorem dksX7_isNoBucket_0 : cX7_isNoBucket.data.toList.drop 0 = dktX7_isNoBucket_0 := by decide +kernel
theorem dX7_isNoBucket_0 : decode cX7_isNoBucket 0 = .ok (.iload_n 1, 1) := dk_27 (dk_at dksX7_isNoBucket_0 0 rfl rfl)
theorem dX7_isNoBucket_1 : decode cX7_isNoBucket 1 = .ok (.iconst 0, 1) := dk_3 (dk_at dksX7_isNoBucket_0 1 rfl rfl)
theorem dX7_isNoBucket_2 : decode cX7_isNoBucket 2 = .ok (.aload_n 0, 1) := dk_42 (dk_at dksX7_isNoBucket_0 2 rfl rfl)
theorem dX7_isNoBucket_3 : decode cX7_isNoBucket 3 = .ok (.getfield 12, 3) := dk_180 0 12 (dk_at dksX7_isNoBucket_0 3 rfl rfl)
theorem dX7_isNoBucket_6 : decode cX7_isNoBucket 6 = .ok (.invokevirtual 59, 3) := dk_182 0 59 (dk_at dksX7_isNoBucket_0 6 rfl rfl)
theorem dX7_isNoBucket_9 : decode cX7_isNoBucket 9 = .ok (.iconst 1, 1) := dk_4 (dk_at dksX7_isNoBucket_0 9 rfl rfl)
theorem dX7_isNoBucket_10 : decode cX7_isNoBucket 10 = .ok (.isub, 1) := dk_100 (dk_at dksX7_isNoBucket_0 10 rfl rfl)
theorem dX7_isNoBucket_11 : decode cX7_isNoBucket 11 = .ok (.invokestatic 55, 3) := dk_184 0 55 (dk_at dksX7_isNoBucket_0 11 rfl rfl)
theorem dX7_isNoBucket_14 : decode cX7_isNoBucket 14 = .ok (.ifCond .ne 7, 3) := dk_154 0 7 (dk_at dksX7_isNoBucket_0 14 rfl rfl)
theorem dX7_isNoBucket_17 : decode cX7_isNoBucket 17 = .ok (.iconst 1, 1) := dk_4 (dk_at dksX7_isNoBucket_0 17 rfl rfl)
theorem dX7_isNoBucket_18 : decode cX7_isNoBucket 18 = .ok (.goto 4, 3) := dk_167 0 4 (dk_at dksX7_isNoBucket_0 18 rfl rfl)
theorem dX7_isNoBucket_21 : decode cX7_isNoBucket 21 = .ok (.iconst 0, 1) := dk_3 (dk_at dksX7_isNoBucket_0 21 rfl rfl)
theorem dX7_isNoBucket_22 : decode cX7_isNoBucket 22 = .ok (.ireturn, 1) := dk_172 (dk_at dksX7_isNoBucket_0 22 rfl rfl)
abbrev cX7_bucketTold : ByteArray := prog_15_method_40_code
def yX7_bucketTold : MethodName := ⟨RX7, "bucketTold", "(II)I"⟩
def dkwX7_bucketTold_4 : List UInt8 := [182, 0, 198, 192, 0, 40, 182, 0, 201, 79, 58, 4, 25, 4, 28, 46, 172]
abbrev dktX7_bucketTold_4 : List UInt8 := dkwX7_bucketTold_4 ++ []
def dkwX7_bucketTold_3 : List UInt8 := [192, 0, 40, 182, 0, 201, 79, 89, 8, 45, 180, 0, 142, 45, 180, 0, 142, 182, 0, 85, 4, 100]
abbrev dktX7_bucketTold_3 : List UInt8 := dkwX7_bucketTold_3 ++ dktX7_bucketTold_4
def dkwX7_bucketTold_2 : List UInt8 := [89, 6, 27, 42, 180, 0, 12, 182, 0, 59, 184, 0, 168, 79, 89, 7, 45, 180, 0, 142, 3, 182, 0, 198]
abbrev dktX7_bucketTold_2 : List UInt8 := dkwX7_bucketTold_2 ++ dktX7_bucketTold_3
def dkwX7_bucketTold_1 : List UInt8 := [180, 0, 245, 182, 0, 85, 79, 89, 4, 45, 180, 0, 142, 182, 0, 85, 79, 89, 5, 45, 180, 0, 248, 79]
abbrev dktX7_bucketTold_1 : List UInt8 := dkwX7_bucketTold_1 ++ dktX7_bucketTold_2
def dkwX7_bucketTold_0 : List UInt8 := [42, 180, 0, 12, 180, 0, 242, 27, 182, 0, 198, 192, 0, 135, 78, 16, 6, 188, 10, 89, 3, 45]
abbrev dktX7_bucketTold_0 : List UInt8 := dkwX7_bucketTold_0 ++ dktX7_bucketTold_1
theorem dksX7_bucketTold_0 : cX7_bucketTold.data.toList.drop 0 = dktX7_bucketTold_0 := by decide +kernel
theorem dksX7_bucketTold_1 : cX7_bucketTold.data.toList.drop 22 = dktX7_bucketTold_1 := dk_seg dksX7_bucketTold_0 22 rfl rfl
theorem dksX7_bucketTold_2 : cX7_bucketTold.data.toList.drop 46 = dktX7_bucketTold_2 := dk_seg dksX7_bucketTold_1 24 rfl rfl
theorem dksX7_bucketTold_3 : cX7_bucketTold.data.toList.drop 70 = dktX7_bucketTold_3 := dk_seg dksX7_bucketTold_2 24 rfl rfl
theorem dksX7_bucketTold_4 : cX7_bucketTold.data.toList.drop 92 = dktX7_bucketTold_4 := dk_seg dksX7_bucketTold_3 22 rfl rfl
theorem dX7_bucketTold_0 : decode cX7_bucketTold 0 = .ok (.aload_n 0, 1) := dk_42 (dk_at dksX7_bucketTold_0 0 rfl rfl)
theorem dX7_bucketTold_1 : decode cX7_bucketTold 1 = .ok (.getfield 12, 3) := dk_180 0 12 (dk_at dksX7_bucketTold_0 1 rfl rfl)
theorem dX7_bucketTold_4 : decode cX7_bucketTold 4 = .ok (.getfield 242, 3) := dk_180 0 242 (dk_at dksX7_bucketTold_0 4 rfl rfl)
theorem dX7_bucketTold_7 : decode cX7_bucketTold 7 = .ok (.iload_n 1, 1) := dk_27 (dk_at dksX7_bucketTold_0 7 rfl rfl)
theorem dX7_bucketTold_8 : decode cX7_bucketTold 8 = .ok (.invokevirtual 198, 3) := dk_182 0 198 (dk_at dksX7_bucketTold_0 8 rfl rfl)
theorem dX7_bucketTold_11 : decode cX7_bucketTold 11 = .ok (.checkcast 135, 3) := dk_192 0 135 (dk_at dksX7_bucketTold_0 11 rfl rfl)
theorem dX7_bucketTold_14 : decode cX7_bucketTold 14 = .ok (.astore_n 3, 1) := dk_78 (dk_at dksX7_bucketTold_0 14 rfl rfl)
theorem dX7_bucketTold_15 : decode cX7_bucketTold 15 = .ok (.bipush 6, 2) := dk_16 6 (dk_at dksX7_bucketTold_0 15 rfl rfl)
theorem dX7_bucketTold_17 : decode cX7_bucketTold 17 = .ok (.newarray .int, 2) := dk_188_10 (dk_at dksX7_bucketTold_0 17 rfl rfl)
theorem dX7_bucketTold_19 : decode cX7_bucketTold 19 = .ok (.dup, 1) := dk_89 (dk_at dksX7_bucketTold_0 19 rfl rfl)
theorem dX7_bucketTold_20 : decode cX7_bucketTold 20 = .ok (.iconst 0, 1) := dk_3 (dk_at dksX7_bucketTold_0 20 rfl rfl)
theorem dX7_bucketTold_21 : decode cX7_bucketTold 21 = .ok (.aload_n 3, 1) := dk_45 (dk_at dksX7_bucketTold_0 21 rfl rfl)
theorem dX7_bucketTold_22 : decode cX7_bucketTold 22 = .ok (.getfield 245, 3) := dk_180 0 245 (dk_at dksX7_bucketTold_1 0 rfl rfl)
theorem dX7_bucketTold_25 : decode cX7_bucketTold 25 = .ok (.invokevirtual 85, 3) := dk_182 0 85 (dk_at dksX7_bucketTold_1 3 rfl rfl)
theorem dX7_bucketTold_28 : decode cX7_bucketTold 28 = .ok (.iastore, 1) := dk_79 (dk_at dksX7_bucketTold_1 6 rfl rfl)
theorem dX7_bucketTold_29 : decode cX7_bucketTold 29 = .ok (.dup, 1) := dk_89 (dk_at dksX7_bucketTold_1 7 rfl rfl)
theorem dX7_bucketTold_30 : decode cX7_bucketTold 30 = .ok (.iconst 1, 1) := dk_4 (dk_at dksX7_bucketTold_1 8 rfl rfl)
theorem dX7_bucketTold_31 : decode cX7_bucketTold 31 = .ok (.aload_n 3, 1) := dk_45 (dk_at dksX7_bucketTold_1 9 rfl rfl)
theorem dX7_bucketTold_32 : decode cX7_bucketTold 32 = .ok (.getfield 142, 3) := dk_180 0 142 (dk_at dksX7_bucketTold_1 10 rfl rfl)
theorem dX7_bucketTold_35 : decode cX7_bucketTold 35 = .ok (.invokevirtual 85, 3) := dk_182 0 85 (dk_at dksX7_bucketTold_1 13 rfl rfl)
theorem dX7_bucketTold_38 : decode cX7_bucketTold 38 = .ok (.iastore, 1) := dk_79 (dk_at dksX7_bucketTold_1 16 rfl rfl)
theorem dX7_bucketTold_39 : decode cX7_bucketTold 39 = .ok (.dup, 1) := dk_89 (dk_at dksX7_bucketTold_1 17 rfl rfl)
theorem dX7_bucketTold_40 : decode cX7_bucketTold 40 = .ok (.iconst 2, 1) := dk_5 (dk_at dksX7_bucketTold_1 18 rfl rfl)
theorem dX7_bucketTold_41 : decode cX7_bucketTold 41 = .ok (.aload_n 3, 1) := dk_45 (dk_at dksX7_bucketTold_1 19 rfl rfl)
theorem dX7_bucketTold_42 : decode cX7_bucketTold 42 = .ok (.getfield 248, 3) := dk_180 0 248 (dk_at dksX7_bucketTold_1 20 rfl rfl)
theorem dX7_bucketTold_45 : decode cX7_bucketTold 45 = .ok (.iastore, 1) := dk_79 (dk_at dksX7_bucketTold_1 23 rfl rfl)
theorem dX7_bucketTold_46 : decode cX7_bucketTold 46 = .ok (.dup, 1) := dk_89 (dk_at dksX7_bucketTold_2 0 rfl rfl)
theorem dX7_bucketTold_47 : decode cX7_bucketTold 47 = .ok (.iconst 3, 1) := dk_6 (dk_at dksX7_bucketTold_2 1 rfl rfl)
theorem dX7_bucketTold_48 : decode cX7_bucketTold 48 = .ok (.iload_n 1, 1) := dk_27 (dk_at dksX7_bucketTold_2 2 rfl rfl)
theorem dX7_bucketTold_49 : decode cX7_bucketTold 49 = .ok (.aload_n 0, 1) := dk_42 (dk_at dksX7_bucketTold_2 3 rfl rfl)
theorem dX7_bucketTold_50 : decode cX7_bucketTold 50 = .ok (.getfield 12, 3) := dk_180 0 12 (dk_at dksX7_bucketTold_2 4 rfl rfl)
theorem dX7_bucketTold_53 : decode cX7_bucketTold 53 = .ok (.invokevirtual 59, 3) := dk_182 0 59 (dk_at dksX7_bucketTold_2 7 rfl rfl)
theorem dX7_bucketTold_56 : decode cX7_bucketTold 56 = .ok (.invokestatic 168, 3) := dk_184 0 168 (dk_at dksX7_bucketTold_2 10 rfl rfl)
theorem dX7_bucketTold_59 : decode cX7_bucketTold 59 = .ok (.iastore, 1) := dk_79 (dk_at dksX7_bucketTold_2 13 rfl rfl)
theorem dX7_bucketTold_60 : decode cX7_bucketTold 60 = .ok (.dup, 1) := dk_89 (dk_at dksX7_bucketTold_2 14 rfl rfl)
theorem dX7_bucketTold_61 : decode cX7_bucketTold 61 = .ok (.iconst 4, 1) := dk_7 (dk_at dksX7_bucketTold_2 15 rfl rfl)
theorem dX7_bucketTold_62 : decode cX7_bucketTold 62 = .ok (.aload_n 3, 1) := dk_45 (dk_at dksX7_bucketTold_2 16 rfl rfl)
theorem dX7_bucketTold_63 : decode cX7_bucketTold 63 = .ok (.getfield 142, 3) := dk_180 0 142 (dk_at dksX7_bucketTold_2 17 rfl rfl)
theorem dX7_bucketTold_66 : decode cX7_bucketTold 66 = .ok (.iconst 0, 1) := dk_3 (dk_at dksX7_bucketTold_2 20 rfl rfl)
theorem dX7_bucketTold_67 : decode cX7_bucketTold 67 = .ok (.invokevirtual 198, 3) := dk_182 0 198 (dk_at dksX7_bucketTold_2 21 rfl rfl)
theorem dX7_bucketTold_70 : decode cX7_bucketTold 70 = .ok (.checkcast 40, 3) := dk_192 0 40 (dk_at dksX7_bucketTold_3 0 rfl rfl)
theorem dX7_bucketTold_73 : decode cX7_bucketTold 73 = .ok (.invokevirtual 201, 3) := dk_182 0 201 (dk_at dksX7_bucketTold_3 3 rfl rfl)
theorem dX7_bucketTold_76 : decode cX7_bucketTold 76 = .ok (.iastore, 1) := dk_79 (dk_at dksX7_bucketTold_3 6 rfl rfl)
theorem dX7_bucketTold_77 : decode cX7_bucketTold 77 = .ok (.dup, 1) := dk_89 (dk_at dksX7_bucketTold_3 7 rfl rfl)
theorem dX7_bucketTold_78 : decode cX7_bucketTold 78 = .ok (.iconst 5, 1) := dk_8 (dk_at dksX7_bucketTold_3 8 rfl rfl)
theorem dX7_bucketTold_79 : decode cX7_bucketTold 79 = .ok (.aload_n 3, 1) := dk_45 (dk_at dksX7_bucketTold_3 9 rfl rfl)
theorem dX7_bucketTold_80 : decode cX7_bucketTold 80 = .ok (.getfield 142, 3) := dk_180 0 142 (dk_at dksX7_bucketTold_3 10 rfl rfl)
theorem dX7_bucketTold_83 : decode cX7_bucketTold 83 = .ok (.aload_n 3, 1) := dk_45 (dk_at dksX7_bucketTold_3 13 rfl rfl)
theorem dX7_bucketTold_84 : decode cX7_bucketTold 84 = .ok (.getfield 142, 3) := dk_180 0 142 (dk_at dksX7_bucketTold_3 14 rfl rfl)
theorem dX7_bucketTold_87 : decode cX7_bucketTold 87 = .ok (.invokevirtual 85, 3) := dk_182 0 85 (dk_at dksX7_bucketTold_3 17 rfl rfl)
theorem dX7_bucketTold_90 : decode cX7_bucketTold 90 = .ok (.iconst 1, 1) := dk_4 (dk_at dksX7_bucketTold_3 20 rfl rfl)
theorem dX7_bucketTold_91 : decode cX7_bucketTold 91 = .ok (.isub, 1) := dk_100 (dk_at dksX7_bucketTold_3 21 rfl rfl)
theorem dX7_bucketTold_92 : decode cX7_bucketTold 92 = .ok (.invokevirtual 198, 3) := dk_182 0 198 (dk_at dksX7_bucketTold_4 0 rfl rfl)
theorem dX7_bucketTold_95 : decode cX7_bucketTold 95 = .ok (.checkcast 40, 3) := dk_192 0 40 (dk_at dksX7_bucketTold_4 3 rfl rfl)
theorem dX7_bucketTold_98 : decode cX7_bucketTold 98 = .ok (.invokevirtual 201, 3) := dk_182 0 201 (dk_at dksX7_bucketTold_4 6 rfl rfl)
theorem dX7_bucketTold_101 : decode cX7_bucketTold 101 = .ok (.iastore, 1) := dk_79 (dk_at dksX7_bucketTold_4 9 rfl rfl)
theorem dX7_bucketTold_102 : decode cX7_bucketTold 102 = .ok (.astore 4, 2) := dk_58 4 (dk_at dksX7_bucketTold_4 10 rfl rfl)
theorem dX7_bucketTold_104 : decode cX7_bucketTold 104 = .ok (.aload 4, 2) := dk_25 4 (dk_at dksX7_bucketTold_4 12 rfl rfl)
theorem dX7_bucketTold_106 : decode cX7_bucketTold 106 = .ok (.iload_n 2, 1) := dk_28 (dk_at dksX7_bucketTold_4 14 rfl rfl)
theorem dX7_bucketTold_107 : decode cX7_bucketTold 107 = .ok (.iaload, 1) := dk_46 (dk_at dksX7_bucketTold_4 15 rfl rfl)
theorem dX7_bucketTold_108 : decode cX7_bucketTold 108 = .ok (.ireturn, 1) := dk_172 (dk_at dksX7_bucketTold_4 16 rfl rfl)
abbrev cX7_chain : ByteArray := prog_15_method_43_code
def yX7_chain : MethodName := ⟨RX7, "chain", "(I)Ljava/lang/String;"⟩
def dkwX7_chain_1 : List UInt8 := [176]
abbrev dktX7_chain_1 : List UInt8 := dkwX7_chain_1 ++ []
def dkwX7_chain_0 : List UInt8 := [42, 42, 27, 182, 0, 251, 4, 182, 0, 105, 153, 0, 9, 19, 1, 21, 167, 0, 8, 42, 27, 182, 1, 23]
abbrev dktX7_chain_0 : List UInt8 := dkwX7_chain_0 ++ dktX7_chain_1
theorem dksX7_chain_0 : cX7_chain.data.toList.drop 0 = dktX7_chain_0 := by decide +kernel
theorem dksX7_chain_1 : cX7_chain.data.toList.drop 24 = dktX7_chain_1 := dk_seg dksX7_chain_0 24 rfl rfl
theorem dX7_chain_0 : decode cX7_chain 0 = .ok (.aload_n 0, 1) := dk_42 (dk_at dksX7_chain_0 0 rfl rfl)
theorem dX7_chain_1 : decode cX7_chain 1 = .ok (.aload_n 0, 1) := dk_42 (dk_at dksX7_chain_0 1 rfl rfl)
theorem dX7_chain_2 : decode cX7_chain 2 = .ok (.iload_n 1, 1) := dk_27 (dk_at dksX7_chain_0 2 rfl rfl)
theorem dX7_chain_3 : decode cX7_chain 3 = .ok (.invokevirtual 251, 3) := dk_182 0 251 (dk_at dksX7_chain_0 3 rfl rfl)
theorem dX7_chain_6 : decode cX7_chain 6 = .ok (.iconst 1, 1) := dk_4 (dk_at dksX7_chain_0 6 rfl rfl)
theorem dX7_chain_7 : decode cX7_chain 7 = .ok (.invokevirtual 105, 3) := dk_182 0 105 (dk_at dksX7_chain_0 7 rfl rfl)
theorem dX7_chain_10 : decode cX7_chain 10 = .ok (.ifCond .eq 9, 3) := dk_153 0 9 (dk_at dksX7_chain_0 10 rfl rfl)
theorem dX7_chain_13 : decode cX7_chain 13 = .ok (.ldc_w 277, 3) := dk_19 1 21 (dk_at dksX7_chain_0 13 rfl rfl)
theorem dX7_chain_16 : decode cX7_chain 16 = .ok (.goto 8, 3) := dk_167 0 8 (dk_at dksX7_chain_0 16 rfl rfl)
theorem dX7_chain_19 : decode cX7_chain 19 = .ok (.aload_n 0, 1) := dk_42 (dk_at dksX7_chain_0 19 rfl rfl)
theorem dX7_chain_20 : decode cX7_chain 20 = .ok (.iload_n 1, 1) := dk_27 (dk_at dksX7_chain_0 20 rfl rfl)
theorem dX7_chain_21 : decode cX7_chain 21 = .ok (.invokevirtual 279, 3) := dk_182 1 23 (dk_at dksX7_chain_0 21 rfl rfl)
theorem dX7_chain_24 : decode cX7_chain 24 = .ok (.areturn, 1) := dk_176 (dk_at dksX7_chain_1 0 rfl rfl)
abbrev cX7_chainTold : ByteArray := prog_15_method_42_code
def yX7_chainTold : MethodName := ⟨RX7, "chainTold", "(I)Ljava/lang/String;"⟩
def dkwX7_chainTold_4 : List UInt8 := [87, 132, 3, 1, 167, 255, 192, 29, 154, 0, 9, 19, 1, 15, 167, 0, 7, 44, 182, 1, 17, 176]
abbrev dktX7_chainTold_4 : List UInt8 := dkwX7_chainTold_4 ++ []
def dkwX7_chainTold_3 : List UInt8 := [154, 0, 9, 19, 1, 4, 167, 0, 6, 19, 1, 6, 182, 1, 8, 87, 44, 25, 5, 3, 46, 182, 1, 12]
abbrev dktX7_chainTold_3 : List UInt8 := dkwX7_chainTold_3 ++ dktX7_chainTold_4
def dkwX7_chainTold_2 : List UInt8 := [185, 0, 73, 1, 0, 192, 0, 77, 58, 5, 29, 158, 0, 29, 44, 29, 42, 180, 0, 12, 180, 0, 145, 112]
abbrev dktX7_chainTold_2 : List UInt8 := dkwX7_chainTold_2 ++ dktX7_chainTold_3
def dkwX7_chainTold_1 : List UInt8 := [180, 0, 245, 182, 0, 63, 58, 4, 25, 4, 185, 0, 67, 1, 0, 153, 0, 60, 25, 4]
abbrev dktX7_chainTold_1 : List UInt8 := dkwX7_chainTold_1 ++ dktX7_chainTold_2
def dkwX7_chainTold_0 : List UInt8 := [187, 1, 1, 89, 183, 1, 3, 77, 3, 62, 42, 180, 0, 12, 180, 0, 242, 27, 182, 0, 198, 192, 0, 135]
abbrev dktX7_chainTold_0 : List UInt8 := dkwX7_chainTold_0 ++ dktX7_chainTold_1
theorem dksX7_chainTold_0 : cX7_chainTold.data.toList.drop 0 = dktX7_chainTold_0 := by decide +kernel
theorem dksX7_chainTold_1 : cX7_chainTold.data.toList.drop 24 = dktX7_chainTold_1 := dk_seg dksX7_chainTold_0 24 rfl rfl
theorem dksX7_chainTold_2 : cX7_chainTold.data.toList.drop 44 = dktX7_chainTold_2 := dk_seg dksX7_chainTold_1 20 rfl rfl
theorem dksX7_chainTold_3 : cX7_chainTold.data.toList.drop 68 = dktX7_chainTold_3 := dk_seg dksX7_chainTold_2 24 rfl rfl
theorem dksX7_chainTold_4 : cX7_chainTold.data.toList.drop 92 = dktX7_chainTold_4 := dk_seg dksX7_chainTold_3 24 rfl rfl
theorem dX7_chainTold_0 : decode cX7_chainTold 0 = .ok (.new 257, 3) := dk_187 1 1 (dk_at dksX7_chainTold_0 0 rfl rfl)
theorem dX7_chainTold_3 : decode cX7_chainTold 3 = .ok (.dup, 1) := dk_89 (dk_at dksX7_chainTold_0 3 rfl rfl)
theorem dX7_chainTold_4 : decode cX7_chainTold 4 = .ok (.invokespecial 259, 3) := dk_183 1 3 (dk_at dksX7_chainTold_0 4 rfl rfl)
theorem dX7_chainTold_7 : decode cX7_chainTold 7 = .ok (.astore_n 2, 1) := dk_77 (dk_at dksX7_chainTold_0 7 rfl rfl)
theorem dX7_chainTold_8 : decode cX7_chainTold 8 = .ok (.iconst 0, 1) := dk_3 (dk_at dksX7_chainTold_0 8 rfl rfl)
theorem dX7_chainTold_9 : decode cX7_chainTold 9 = .ok (.istore_n 3, 1) := dk_62 (dk_at dksX7_chainTold_0 9 rfl rfl)
theorem dX7_chainTold_10 : decode cX7_chainTold 10 = .ok (.aload_n 0, 1) := dk_42 (dk_at dksX7_chainTold_0 10 rfl rfl)
theorem dX7_chainTold_11 : decode cX7_chainTold 11 = .ok (.getfield 12, 3) := dk_180 0 12 (dk_at dksX7_chainTold_0 11 rfl rfl)
theorem dX7_chainTold_14 : decode cX7_chainTold 14 = .ok (.getfield 242, 3) := dk_180 0 242 (dk_at dksX7_chainTold_0 14 rfl rfl)
theorem dX7_chainTold_17 : decode cX7_chainTold 17 = .ok (.iload_n 1, 1) := dk_27 (dk_at dksX7_chainTold_0 17 rfl rfl)
theorem dX7_chainTold_18 : decode cX7_chainTold 18 = .ok (.invokevirtual 198, 3) := dk_182 0 198 (dk_at dksX7_chainTold_0 18 rfl rfl)
theorem dX7_chainTold_21 : decode cX7_chainTold 21 = .ok (.checkcast 135, 3) := dk_192 0 135 (dk_at dksX7_chainTold_0 21 rfl rfl)
theorem dX7_chainTold_24 : decode cX7_chainTold 24 = .ok (.getfield 245, 3) := dk_180 0 245 (dk_at dksX7_chainTold_1 0 rfl rfl)
theorem dX7_chainTold_27 : decode cX7_chainTold 27 = .ok (.invokevirtual 63, 3) := dk_182 0 63 (dk_at dksX7_chainTold_1 3 rfl rfl)
theorem dX7_chainTold_30 : decode cX7_chainTold 30 = .ok (.astore 4, 2) := dk_58 4 (dk_at dksX7_chainTold_1 6 rfl rfl)
theorem dX7_chainTold_32 : decode cX7_chainTold 32 = .ok (.aload 4, 2) := dk_25 4 (dk_at dksX7_chainTold_1 8 rfl rfl)
theorem dX7_chainTold_34 : decode cX7_chainTold 34 = .ok (.invokeinterface 67 1, 5) := by decide +kernel
theorem dX7_chainTold_39 : decode cX7_chainTold 39 = .ok (.ifCond .eq 60, 3) := dk_153 0 60 (dk_at dksX7_chainTold_1 15 rfl rfl)
theorem dX7_chainTold_42 : decode cX7_chainTold 42 = .ok (.aload 4, 2) := dk_25 4 (dk_at dksX7_chainTold_1 18 rfl rfl)
theorem dX7_chainTold_44 : decode cX7_chainTold 44 = .ok (.invokeinterface 73 1, 5) := by decide +kernel
theorem dX7_chainTold_49 : decode cX7_chainTold 49 = .ok (.checkcast 77, 3) := dk_192 0 77 (dk_at dksX7_chainTold_2 5 rfl rfl)
theorem dX7_chainTold_52 : decode cX7_chainTold 52 = .ok (.astore 5, 2) := dk_58 5 (dk_at dksX7_chainTold_2 8 rfl rfl)
theorem dX7_chainTold_54 : decode cX7_chainTold 54 = .ok (.iload_n 3, 1) := dk_29 (dk_at dksX7_chainTold_2 10 rfl rfl)
theorem dX7_chainTold_55 : decode cX7_chainTold 55 = .ok (.ifCond .le 29, 3) := dk_158 0 29 (dk_at dksX7_chainTold_2 11 rfl rfl)
theorem dX7_chainTold_58 : decode cX7_chainTold 58 = .ok (.aload_n 2, 1) := dk_44 (dk_at dksX7_chainTold_2 14 rfl rfl)
theorem dX7_chainTold_59 : decode cX7_chainTold 59 = .ok (.iload_n 3, 1) := dk_29 (dk_at dksX7_chainTold_2 15 rfl rfl)
theorem dX7_chainTold_60 : decode cX7_chainTold 60 = .ok (.aload_n 0, 1) := dk_42 (dk_at dksX7_chainTold_2 16 rfl rfl)
theorem dX7_chainTold_61 : decode cX7_chainTold 61 = .ok (.getfield 12, 3) := dk_180 0 12 (dk_at dksX7_chainTold_2 17 rfl rfl)
theorem dX7_chainTold_64 : decode cX7_chainTold 64 = .ok (.getfield 145, 3) := dk_180 0 145 (dk_at dksX7_chainTold_2 20 rfl rfl)
theorem dX7_chainTold_67 : decode cX7_chainTold 67 = .ok (.irem, 1) := dk_112 (dk_at dksX7_chainTold_2 23 rfl rfl)
theorem dX7_chainTold_68 : decode cX7_chainTold 68 = .ok (.ifCond .ne 9, 3) := dk_154 0 9 (dk_at dksX7_chainTold_3 0 rfl rfl)
theorem dX7_chainTold_71 : decode cX7_chainTold 71 = .ok (.ldc_w 260, 3) := dk_19 1 4 (dk_at dksX7_chainTold_3 3 rfl rfl)
theorem dX7_chainTold_74 : decode cX7_chainTold 74 = .ok (.goto 6, 3) := dk_167 0 6 (dk_at dksX7_chainTold_3 6 rfl rfl)
theorem dX7_chainTold_77 : decode cX7_chainTold 77 = .ok (.ldc_w 262, 3) := dk_19 1 6 (dk_at dksX7_chainTold_3 9 rfl rfl)
theorem dX7_chainTold_80 : decode cX7_chainTold 80 = .ok (.invokevirtual 264, 3) := dk_182 1 8 (dk_at dksX7_chainTold_3 12 rfl rfl)
theorem dX7_chainTold_83 : decode cX7_chainTold 83 = .ok (.pop, 1) := dk_87 (dk_at dksX7_chainTold_3 15 rfl rfl)
theorem dX7_chainTold_84 : decode cX7_chainTold 84 = .ok (.aload_n 2, 1) := dk_44 (dk_at dksX7_chainTold_3 16 rfl rfl)
theorem dX7_chainTold_85 : decode cX7_chainTold 85 = .ok (.aload 5, 2) := dk_25 5 (dk_at dksX7_chainTold_3 17 rfl rfl)
theorem dX7_chainTold_87 : decode cX7_chainTold 87 = .ok (.iconst 0, 1) := dk_3 (dk_at dksX7_chainTold_3 19 rfl rfl)
theorem dX7_chainTold_88 : decode cX7_chainTold 88 = .ok (.iaload, 1) := dk_46 (dk_at dksX7_chainTold_3 20 rfl rfl)
theorem dX7_chainTold_89 : decode cX7_chainTold 89 = .ok (.invokevirtual 268, 3) := dk_182 1 12 (dk_at dksX7_chainTold_3 21 rfl rfl)
theorem dX7_chainTold_92 : decode cX7_chainTold 92 = .ok (.pop, 1) := dk_87 (dk_at dksX7_chainTold_4 0 rfl rfl)
theorem dX7_chainTold_93 : decode cX7_chainTold 93 = .ok (.iinc 3 1, 3) := dk_132 3 1 (dk_at dksX7_chainTold_4 1 rfl rfl)
theorem dX7_chainTold_96 : decode cX7_chainTold 96 = .ok (.goto (-64), 3) := dk_167 255 192 (dk_at dksX7_chainTold_4 4 rfl rfl)
theorem dX7_chainTold_99 : decode cX7_chainTold 99 = .ok (.iload_n 3, 1) := dk_29 (dk_at dksX7_chainTold_4 7 rfl rfl)
theorem dX7_chainTold_100 : decode cX7_chainTold 100 = .ok (.ifCond .ne 9, 3) := dk_154 0 9 (dk_at dksX7_chainTold_4 8 rfl rfl)
theorem dX7_chainTold_103 : decode cX7_chainTold 103 = .ok (.ldc_w 271, 3) := dk_19 1 15 (dk_at dksX7_chainTold_4 11 rfl rfl)
theorem dX7_chainTold_106 : decode cX7_chainTold 106 = .ok (.goto 7, 3) := dk_167 0 7 (dk_at dksX7_chainTold_4 14 rfl rfl)
theorem dX7_chainTold_109 : decode cX7_chainTold 109 = .ok (.aload_n 2, 1) := dk_44 (dk_at dksX7_chainTold_4 17 rfl rfl)
theorem dX7_chainTold_110 : decode cX7_chainTold 110 = .ok (.invokevirtual 273, 3) := dk_182 1 17 (dk_at dksX7_chainTold_4 18 rfl rfl)
theorem dX7_chainTold_113 : decode cX7_chainTold 113 = .ok (.areturn, 1) := dk_176 (dk_at dksX7_chainTold_4 21 rfl rfl)
abbrev cX7_ofPage : ByteArray := prog_15_method_45_code
def yX7_ofPage : MethodName := ⟨RX7, "ofPage", "(II)I"⟩
def dkwX7_ofPage_2 : List UInt8 := [167, 0, 9, 42, 27, 28, 182, 1, 35, 172]
abbrev dktX7_ofPage_2 : List UInt8 := dkwX7_ofPage_2 ++ []
def dkwX7_ofPage_1 : List UInt8 := [28, 3, 5, 184, 0, 55, 154, 0, 7, 4, 167, 0, 4, 3, 5, 182, 0, 51, 153, 0, 7, 3]
abbrev dktX7_ofPage_1 : List UInt8 := dkwX7_ofPage_1 ++ dktX7_ofPage_2
def dkwX7_ofPage_0 : List UInt8 := [42, 27, 3, 16, 95, 184, 0, 55, 154, 0, 7, 4, 167, 0, 4, 3, 4, 182, 0, 105, 154, 0, 25, 42]
abbrev dktX7_ofPage_0 : List UInt8 := dkwX7_ofPage_0 ++ dktX7_ofPage_1
theorem dksX7_ofPage_0 : cX7_ofPage.data.toList.drop 0 = dktX7_ofPage_0 := by decide +kernel
theorem dksX7_ofPage_1 : cX7_ofPage.data.toList.drop 24 = dktX7_ofPage_1 := dk_seg dksX7_ofPage_0 24 rfl rfl
theorem dksX7_ofPage_2 : cX7_ofPage.data.toList.drop 46 = dktX7_ofPage_2 := dk_seg dksX7_ofPage_1 22 rfl rfl
theorem dX7_ofPage_0 : decode cX7_ofPage 0 = .ok (.aload_n 0, 1) := dk_42 (dk_at dksX7_ofPage_0 0 rfl rfl)
theorem dX7_ofPage_1 : decode cX7_ofPage 1 = .ok (.iload_n 1, 1) := dk_27 (dk_at dksX7_ofPage_0 1 rfl rfl)
theorem dX7_ofPage_2 : decode cX7_ofPage 2 = .ok (.iconst 0, 1) := dk_3 (dk_at dksX7_ofPage_0 2 rfl rfl)
theorem dX7_ofPage_3 : decode cX7_ofPage 3 = .ok (.bipush 95, 2) := dk_16 95 (dk_at dksX7_ofPage_0 3 rfl rfl)
theorem dX7_ofPage_5 : decode cX7_ofPage 5 = .ok (.invokestatic 55, 3) := dk_184 0 55 (dk_at dksX7_ofPage_0 5 rfl rfl)
theorem dX7_ofPage_8 : decode cX7_ofPage 8 = .ok (.ifCond .ne 7, 3) := dk_154 0 7 (dk_at dksX7_ofPage_0 8 rfl rfl)
theorem dX7_ofPage_11 : decode cX7_ofPage 11 = .ok (.iconst 1, 1) := dk_4 (dk_at dksX7_ofPage_0 11 rfl rfl)
theorem dX7_ofPage_12 : decode cX7_ofPage 12 = .ok (.goto 4, 3) := dk_167 0 4 (dk_at dksX7_ofPage_0 12 rfl rfl)
theorem dX7_ofPage_15 : decode cX7_ofPage 15 = .ok (.iconst 0, 1) := dk_3 (dk_at dksX7_ofPage_0 15 rfl rfl)
theorem dX7_ofPage_16 : decode cX7_ofPage 16 = .ok (.iconst 1, 1) := dk_4 (dk_at dksX7_ofPage_0 16 rfl rfl)
theorem dX7_ofPage_17 : decode cX7_ofPage 17 = .ok (.invokevirtual 105, 3) := dk_182 0 105 (dk_at dksX7_ofPage_0 17 rfl rfl)
theorem dX7_ofPage_20 : decode cX7_ofPage 20 = .ok (.ifCond .ne 25, 3) := dk_154 0 25 (dk_at dksX7_ofPage_0 20 rfl rfl)
theorem dX7_ofPage_23 : decode cX7_ofPage 23 = .ok (.aload_n 0, 1) := dk_42 (dk_at dksX7_ofPage_0 23 rfl rfl)
theorem dX7_ofPage_24 : decode cX7_ofPage 24 = .ok (.iload_n 2, 1) := dk_28 (dk_at dksX7_ofPage_1 0 rfl rfl)
theorem dX7_ofPage_25 : decode cX7_ofPage 25 = .ok (.iconst 0, 1) := dk_3 (dk_at dksX7_ofPage_1 1 rfl rfl)
theorem dX7_ofPage_26 : decode cX7_ofPage 26 = .ok (.iconst 2, 1) := dk_5 (dk_at dksX7_ofPage_1 2 rfl rfl)
theorem dX7_ofPage_27 : decode cX7_ofPage 27 = .ok (.invokestatic 55, 3) := dk_184 0 55 (dk_at dksX7_ofPage_1 3 rfl rfl)
theorem dX7_ofPage_30 : decode cX7_ofPage 30 = .ok (.ifCond .ne 7, 3) := dk_154 0 7 (dk_at dksX7_ofPage_1 6 rfl rfl)
theorem dX7_ofPage_33 : decode cX7_ofPage 33 = .ok (.iconst 1, 1) := dk_4 (dk_at dksX7_ofPage_1 9 rfl rfl)
theorem dX7_ofPage_34 : decode cX7_ofPage 34 = .ok (.goto 4, 3) := dk_167 0 4 (dk_at dksX7_ofPage_1 10 rfl rfl)
theorem dX7_ofPage_37 : decode cX7_ofPage 37 = .ok (.iconst 0, 1) := dk_3 (dk_at dksX7_ofPage_1 13 rfl rfl)
theorem dX7_ofPage_38 : decode cX7_ofPage 38 = .ok (.iconst 2, 1) := dk_5 (dk_at dksX7_ofPage_1 14 rfl rfl)
theorem dX7_ofPage_39 : decode cX7_ofPage 39 = .ok (.invokevirtual 51, 3) := dk_182 0 51 (dk_at dksX7_ofPage_1 15 rfl rfl)
theorem dX7_ofPage_42 : decode cX7_ofPage 42 = .ok (.ifCond .eq 7, 3) := dk_153 0 7 (dk_at dksX7_ofPage_1 18 rfl rfl)
theorem dX7_ofPage_45 : decode cX7_ofPage 45 = .ok (.iconst 0, 1) := dk_3 (dk_at dksX7_ofPage_1 21 rfl rfl)
theorem dX7_ofPage_46 : decode cX7_ofPage 46 = .ok (.goto 9, 3) := dk_167 0 9 (dk_at dksX7_ofPage_2 0 rfl rfl)
theorem dX7_ofPage_49 : decode cX7_ofPage 49 = .ok (.aload_n 0, 1) := dk_42 (dk_at dksX7_ofPage_2 3 rfl rfl)
theorem dX7_ofPage_50 : decode cX7_ofPage 50 = .ok (.iload_n 1, 1) := dk_27 (dk_at dksX7_ofPage_2 4 rfl rfl)
theorem dX7_ofPage_51 : decode cX7_ofPage 51 = .ok (.iload_n 2, 1) := dk_28 (dk_at dksX7_ofPage_2 5 rfl rfl)
theorem dX7_ofPage_52 : decode cX7_ofPage 52 = .ok (.invokevirtual 291, 3) := dk_182 1 35 (dk_at dksX7_ofPage_2 6 rfl rfl)
theorem dX7_ofPage_55 : decode cX7_ofPage 55 = .ok (.ireturn, 1) := dk_172 (dk_at dksX7_ofPage_2 9 rfl rfl)
abbrev cX7_pageTold : ByteArray := prog_15_method_44_code
def yX7_pageTold : MethodName := ⟨RX7, "pageTold", "(II)I"⟩
def dkwX7_pageTold_6 : List UInt8 := [167, 255, 117, 28, 4, 160, 0, 7, 3, 167, 0, 4, 2, 172]
abbrev dktX7_pageTold_6 : List UInt8 := dkwX7_pageTold_6 ++ []
def dkwX7_pageTold_5 : List UInt8 := [182, 0, 198, 192, 0, 40, 182, 0, 201, 167, 0, 4, 2, 79, 58, 6, 25, 6, 28, 46, 172, 132, 3, 1]
abbrev dktX7_pageTold_5 : List UInt8 := dkwX7_pageTold_5 ++ dktX7_pageTold_6
def dkwX7_pageTold_4 : List UInt8 := [21, 5, 4, 96, 25, 4, 180, 0, 142, 182, 0, 85, 162, 0, 24, 25, 4, 180, 0, 142, 21, 5, 4, 96]
abbrev dktX7_pageTold_4 : List UInt8 := dkwX7_pageTold_4 ++ dktX7_pageTold_5
def dkwX7_pageTold_3 : List UInt8 := [180, 0, 245, 182, 0, 85, 21, 5, 42, 180, 0, 12, 180, 0, 145, 104, 100, 184, 0, 184, 79, 89, 5]
abbrev dktX7_pageTold_3 : List UInt8 := dkwX7_pageTold_3 ++ dktX7_pageTold_4
def dkwX7_pageTold_2 : List UInt8 := [160, 0, 6, 167, 0, 89, 6, 188, 10, 89, 3, 29, 79, 89, 4, 42, 180, 0, 12, 180, 0, 145, 25, 4]
abbrev dktX7_pageTold_2 : List UInt8 := dkwX7_pageTold_2 ++ dktX7_pageTold_3
def dkwX7_pageTold_1 : List UInt8 := [192, 0, 135, 58, 4, 25, 4, 180, 0, 142, 27, 184, 1, 27, 182, 1, 31, 54, 5, 21, 5, 2]
abbrev dktX7_pageTold_1 : List UInt8 := dkwX7_pageTold_1 ++ dktX7_pageTold_2
def dkwX7_pageTold_0 : List UInt8 := [3, 62, 29, 42, 180, 0, 12, 182, 0, 59, 162, 0, 134, 42, 180, 0, 12, 180, 0, 242, 29, 182, 0, 198]
abbrev dktX7_pageTold_0 : List UInt8 := dkwX7_pageTold_0 ++ dktX7_pageTold_1
theorem dksX7_pageTold_0 : cX7_pageTold.data.toList.drop 0 = dktX7_pageTold_0 := by decide +kernel
theorem dksX7_pageTold_1 : cX7_pageTold.data.toList.drop 24 = dktX7_pageTold_1 := dk_seg dksX7_pageTold_0 24 rfl rfl
theorem dksX7_pageTold_2 : cX7_pageTold.data.toList.drop 46 = dktX7_pageTold_2 := dk_seg dksX7_pageTold_1 22 rfl rfl
theorem dksX7_pageTold_3 : cX7_pageTold.data.toList.drop 70 = dktX7_pageTold_3 := dk_seg dksX7_pageTold_2 24 rfl rfl
theorem dksX7_pageTold_4 : cX7_pageTold.data.toList.drop 93 = dktX7_pageTold_4 := dk_seg dksX7_pageTold_3 23 rfl rfl
theorem dksX7_pageTold_5 : cX7_pageTold.data.toList.drop 117 = dktX7_pageTold_5 := dk_seg dksX7_pageTold_4 24 rfl rfl
theorem dksX7_pageTold_6 : cX7_pageTold.data.toList.drop 141 = dktX7_pageTold_6 := dk_seg dksX7_pageTold_5 24 rfl rfl
theorem dX7_pageTold_0 : decode cX7_pageTold 0 = .ok (.iconst 0, 1) := dk_3 (dk_at dksX7_pageTold_0 0 rfl rfl)
theorem dX7_pageTold_1 : decode cX7_pageTold 1 = .ok (.istore_n 3, 1) := dk_62 (dk_at dksX7_pageTold_0 1 rfl rfl)
theorem dX7_pageTold_2 : decode cX7_pageTold 2 = .ok (.iload_n 3, 1) := dk_29 (dk_at dksX7_pageTold_0 2 rfl rfl)
theorem dX7_pageTold_3 : decode cX7_pageTold 3 = .ok (.aload_n 0, 1) := dk_42 (dk_at dksX7_pageTold_0 3 rfl rfl)
theorem dX7_pageTold_4 : decode cX7_pageTold 4 = .ok (.getfield 12, 3) := dk_180 0 12 (dk_at dksX7_pageTold_0 4 rfl rfl)
theorem dX7_pageTold_7 : decode cX7_pageTold 7 = .ok (.invokevirtual 59, 3) := dk_182 0 59 (dk_at dksX7_pageTold_0 7 rfl rfl)
theorem dX7_pageTold_10 : decode cX7_pageTold 10 = .ok (.if_icmp .ge 134, 3) := dk_162 0 134 (dk_at dksX7_pageTold_0 10 rfl rfl)
theorem dX7_pageTold_13 : decode cX7_pageTold 13 = .ok (.aload_n 0, 1) := dk_42 (dk_at dksX7_pageTold_0 13 rfl rfl)
theorem dX7_pageTold_14 : decode cX7_pageTold 14 = .ok (.getfield 12, 3) := dk_180 0 12 (dk_at dksX7_pageTold_0 14 rfl rfl)
theorem dX7_pageTold_17 : decode cX7_pageTold 17 = .ok (.getfield 242, 3) := dk_180 0 242 (dk_at dksX7_pageTold_0 17 rfl rfl)
theorem dX7_pageTold_20 : decode cX7_pageTold 20 = .ok (.iload_n 3, 1) := dk_29 (dk_at dksX7_pageTold_0 20 rfl rfl)
theorem dX7_pageTold_21 : decode cX7_pageTold 21 = .ok (.invokevirtual 198, 3) := dk_182 0 198 (dk_at dksX7_pageTold_0 21 rfl rfl)
theorem dX7_pageTold_24 : decode cX7_pageTold 24 = .ok (.checkcast 135, 3) := dk_192 0 135 (dk_at dksX7_pageTold_1 0 rfl rfl)
theorem dX7_pageTold_27 : decode cX7_pageTold 27 = .ok (.astore 4, 2) := dk_58 4 (dk_at dksX7_pageTold_1 3 rfl rfl)
theorem dX7_pageTold_29 : decode cX7_pageTold 29 = .ok (.aload 4, 2) := dk_25 4 (dk_at dksX7_pageTold_1 5 rfl rfl)
theorem dX7_pageTold_31 : decode cX7_pageTold 31 = .ok (.getfield 142, 3) := dk_180 0 142 (dk_at dksX7_pageTold_1 7 rfl rfl)
theorem dX7_pageTold_34 : decode cX7_pageTold 34 = .ok (.iload_n 1, 1) := dk_27 (dk_at dksX7_pageTold_1 10 rfl rfl)
theorem dX7_pageTold_35 : decode cX7_pageTold 35 = .ok (.invokestatic 283, 3) := dk_184 1 27 (dk_at dksX7_pageTold_1 11 rfl rfl)
theorem dX7_pageTold_38 : decode cX7_pageTold 38 = .ok (.invokevirtual 287, 3) := dk_182 1 31 (dk_at dksX7_pageTold_1 14 rfl rfl)
theorem dX7_pageTold_41 : decode cX7_pageTold 41 = .ok (.istore 5, 2) := dk_54 5 (dk_at dksX7_pageTold_1 17 rfl rfl)
theorem dX7_pageTold_43 : decode cX7_pageTold 43 = .ok (.iload 5, 2) := dk_21 5 (dk_at dksX7_pageTold_1 19 rfl rfl)
theorem dX7_pageTold_45 : decode cX7_pageTold 45 = .ok (.iconst (-1), 1) := dk_2 (dk_at dksX7_pageTold_1 21 rfl rfl)
theorem dX7_pageTold_46 : decode cX7_pageTold 46 = .ok (.if_icmp .ne 6, 3) := dk_160 0 6 (dk_at dksX7_pageTold_2 0 rfl rfl)
theorem dX7_pageTold_49 : decode cX7_pageTold 49 = .ok (.goto 89, 3) := dk_167 0 89 (dk_at dksX7_pageTold_2 3 rfl rfl)
theorem dX7_pageTold_52 : decode cX7_pageTold 52 = .ok (.iconst 3, 1) := dk_6 (dk_at dksX7_pageTold_2 6 rfl rfl)
theorem dX7_pageTold_53 : decode cX7_pageTold 53 = .ok (.newarray .int, 2) := dk_188_10 (dk_at dksX7_pageTold_2 7 rfl rfl)
theorem dX7_pageTold_55 : decode cX7_pageTold 55 = .ok (.dup, 1) := dk_89 (dk_at dksX7_pageTold_2 9 rfl rfl)
theorem dX7_pageTold_56 : decode cX7_pageTold 56 = .ok (.iconst 0, 1) := dk_3 (dk_at dksX7_pageTold_2 10 rfl rfl)
theorem dX7_pageTold_57 : decode cX7_pageTold 57 = .ok (.iload_n 3, 1) := dk_29 (dk_at dksX7_pageTold_2 11 rfl rfl)
theorem dX7_pageTold_58 : decode cX7_pageTold 58 = .ok (.iastore, 1) := dk_79 (dk_at dksX7_pageTold_2 12 rfl rfl)
theorem dX7_pageTold_59 : decode cX7_pageTold 59 = .ok (.dup, 1) := dk_89 (dk_at dksX7_pageTold_2 13 rfl rfl)
theorem dX7_pageTold_60 : decode cX7_pageTold 60 = .ok (.iconst 1, 1) := dk_4 (dk_at dksX7_pageTold_2 14 rfl rfl)
theorem dX7_pageTold_61 : decode cX7_pageTold 61 = .ok (.aload_n 0, 1) := dk_42 (dk_at dksX7_pageTold_2 15 rfl rfl)
theorem dX7_pageTold_62 : decode cX7_pageTold 62 = .ok (.getfield 12, 3) := dk_180 0 12 (dk_at dksX7_pageTold_2 16 rfl rfl)
theorem dX7_pageTold_65 : decode cX7_pageTold 65 = .ok (.getfield 145, 3) := dk_180 0 145 (dk_at dksX7_pageTold_2 19 rfl rfl)
theorem dX7_pageTold_68 : decode cX7_pageTold 68 = .ok (.aload 4, 2) := dk_25 4 (dk_at dksX7_pageTold_2 22 rfl rfl)
theorem dX7_pageTold_70 : decode cX7_pageTold 70 = .ok (.getfield 245, 3) := dk_180 0 245 (dk_at dksX7_pageTold_3 0 rfl rfl)
theorem dX7_pageTold_73 : decode cX7_pageTold 73 = .ok (.invokevirtual 85, 3) := dk_182 0 85 (dk_at dksX7_pageTold_3 3 rfl rfl)
theorem dX7_pageTold_76 : decode cX7_pageTold 76 = .ok (.iload 5, 2) := dk_21 5 (dk_at dksX7_pageTold_3 6 rfl rfl)
theorem dX7_pageTold_78 : decode cX7_pageTold 78 = .ok (.aload_n 0, 1) := dk_42 (dk_at dksX7_pageTold_3 8 rfl rfl)
theorem dX7_pageTold_79 : decode cX7_pageTold 79 = .ok (.getfield 12, 3) := dk_180 0 12 (dk_at dksX7_pageTold_3 9 rfl rfl)
theorem dX7_pageTold_82 : decode cX7_pageTold 82 = .ok (.getfield 145, 3) := dk_180 0 145 (dk_at dksX7_pageTold_3 12 rfl rfl)
theorem dX7_pageTold_85 : decode cX7_pageTold 85 = .ok (.imul, 1) := dk_104 (dk_at dksX7_pageTold_3 15 rfl rfl)
theorem dX7_pageTold_86 : decode cX7_pageTold 86 = .ok (.isub, 1) := dk_100 (dk_at dksX7_pageTold_3 16 rfl rfl)
theorem dX7_pageTold_87 : decode cX7_pageTold 87 = .ok (.invokestatic 184, 3) := dk_184 0 184 (dk_at dksX7_pageTold_3 17 rfl rfl)
theorem dX7_pageTold_90 : decode cX7_pageTold 90 = .ok (.iastore, 1) := dk_79 (dk_at dksX7_pageTold_3 20 rfl rfl)
theorem dX7_pageTold_91 : decode cX7_pageTold 91 = .ok (.dup, 1) := dk_89 (dk_at dksX7_pageTold_3 21 rfl rfl)
theorem dX7_pageTold_92 : decode cX7_pageTold 92 = .ok (.iconst 2, 1) := dk_5 (dk_at dksX7_pageTold_3 22 rfl rfl)
theorem dX7_pageTold_93 : decode cX7_pageTold 93 = .ok (.iload 5, 2) := dk_21 5 (dk_at dksX7_pageTold_4 0 rfl rfl)
theorem dX7_pageTold_95 : decode cX7_pageTold 95 = .ok (.iconst 1, 1) := dk_4 (dk_at dksX7_pageTold_4 2 rfl rfl)
theorem dX7_pageTold_96 : decode cX7_pageTold 96 = .ok (.iadd, 1) := dk_96 (dk_at dksX7_pageTold_4 3 rfl rfl)
theorem dX7_pageTold_97 : decode cX7_pageTold 97 = .ok (.aload 4, 2) := dk_25 4 (dk_at dksX7_pageTold_4 4 rfl rfl)
theorem dX7_pageTold_99 : decode cX7_pageTold 99 = .ok (.getfield 142, 3) := dk_180 0 142 (dk_at dksX7_pageTold_4 6 rfl rfl)
theorem dX7_pageTold_102 : decode cX7_pageTold 102 = .ok (.invokevirtual 85, 3) := dk_182 0 85 (dk_at dksX7_pageTold_4 9 rfl rfl)
theorem dX7_pageTold_105 : decode cX7_pageTold 105 = .ok (.if_icmp .ge 24, 3) := dk_162 0 24 (dk_at dksX7_pageTold_4 12 rfl rfl)
theorem dX7_pageTold_108 : decode cX7_pageTold 108 = .ok (.aload 4, 2) := dk_25 4 (dk_at dksX7_pageTold_4 15 rfl rfl)
theorem dX7_pageTold_110 : decode cX7_pageTold 110 = .ok (.getfield 142, 3) := dk_180 0 142 (dk_at dksX7_pageTold_4 17 rfl rfl)
theorem dX7_pageTold_113 : decode cX7_pageTold 113 = .ok (.iload 5, 2) := dk_21 5 (dk_at dksX7_pageTold_4 20 rfl rfl)
theorem dX7_pageTold_115 : decode cX7_pageTold 115 = .ok (.iconst 1, 1) := dk_4 (dk_at dksX7_pageTold_4 22 rfl rfl)
theorem dX7_pageTold_116 : decode cX7_pageTold 116 = .ok (.iadd, 1) := dk_96 (dk_at dksX7_pageTold_4 23 rfl rfl)
theorem dX7_pageTold_117 : decode cX7_pageTold 117 = .ok (.invokevirtual 198, 3) := dk_182 0 198 (dk_at dksX7_pageTold_5 0 rfl rfl)
theorem dX7_pageTold_120 : decode cX7_pageTold 120 = .ok (.checkcast 40, 3) := dk_192 0 40 (dk_at dksX7_pageTold_5 3 rfl rfl)
theorem dX7_pageTold_123 : decode cX7_pageTold 123 = .ok (.invokevirtual 201, 3) := dk_182 0 201 (dk_at dksX7_pageTold_5 6 rfl rfl)
theorem dX7_pageTold_126 : decode cX7_pageTold 126 = .ok (.goto 4, 3) := dk_167 0 4 (dk_at dksX7_pageTold_5 9 rfl rfl)
theorem dX7_pageTold_129 : decode cX7_pageTold 129 = .ok (.iconst (-1), 1) := dk_2 (dk_at dksX7_pageTold_5 12 rfl rfl)
theorem dX7_pageTold_130 : decode cX7_pageTold 130 = .ok (.iastore, 1) := dk_79 (dk_at dksX7_pageTold_5 13 rfl rfl)
theorem dX7_pageTold_131 : decode cX7_pageTold 131 = .ok (.astore 6, 2) := dk_58 6 (dk_at dksX7_pageTold_5 14 rfl rfl)
theorem dX7_pageTold_133 : decode cX7_pageTold 133 = .ok (.aload 6, 2) := dk_25 6 (dk_at dksX7_pageTold_5 16 rfl rfl)
theorem dX7_pageTold_135 : decode cX7_pageTold 135 = .ok (.iload_n 2, 1) := dk_28 (dk_at dksX7_pageTold_5 18 rfl rfl)
theorem dX7_pageTold_136 : decode cX7_pageTold 136 = .ok (.iaload, 1) := dk_46 (dk_at dksX7_pageTold_5 19 rfl rfl)
theorem dX7_pageTold_137 : decode cX7_pageTold 137 = .ok (.ireturn, 1) := dk_172 (dk_at dksX7_pageTold_5 20 rfl rfl)
theorem dX7_pageTold_138 : decode cX7_pageTold 138 = .ok (.iinc 3 1, 3) := dk_132 3 1 (dk_at dksX7_pageTold_5 21 rfl rfl)
theorem dX7_pageTold_141 : decode cX7_pageTold 141 = .ok (.goto (-139), 3) := dk_167 255 117 (dk_at dksX7_pageTold_6 0 rfl rfl)
theorem dX7_pageTold_144 : decode cX7_pageTold 144 = .ok (.iload_n 2, 1) := dk_28 (dk_at dksX7_pageTold_6 3 rfl rfl)
theorem dX7_pageTold_145 : decode cX7_pageTold 145 = .ok (.iconst 1, 1) := dk_4 (dk_at dksX7_pageTold_6 4 rfl rfl)
theorem dX7_pageTold_146 : decode cX7_pageTold 146 = .ok (.if_icmp .ne 7, 3) := dk_160 0 7 (dk_at dksX7_pageTold_6 5 rfl rfl)
theorem dX7_pageTold_149 : decode cX7_pageTold 149 = .ok (.iconst 0, 1) := dk_3 (dk_at dksX7_pageTold_6 8 rfl rfl)
theorem dX7_pageTold_150 : decode cX7_pageTold 150 = .ok (.goto 4, 3) := dk_167 0 4 (dk_at dksX7_pageTold_6 9 rfl rfl)
theorem dX7_pageTold_153 : decode cX7_pageTold 153 = .ok (.iconst (-1), 1) := dk_2 (dk_at dksX7_pageTold_6 12 rfl rfl)
theorem dX7_pageTold_154 : decode cX7_pageTold 154 = .ok (.ireturn, 1) := dk_172 (dk_at dksX7_pageTold_6 13 rfl rfl)
abbrev cX7_mark : ByteArray := prog_15_method_46_code
def yX7_mark : MethodName := ⟨RX7, "mark", "(I)I"⟩
def dkwX7_mark_0 : List UInt8 := [42, 27, 184, 0, 155, 4, 182, 0, 105, 153, 0, 7, 3, 167, 0, 9, 42, 180, 0, 32, 27, 46, 172]
abbrev dktX7_mark_0 : List UInt8 := dkwX7_mark_0 ++ []
theorem dksX7_mark_0 : cX7_mark.data.toList.drop 0 = dktX7_mark_0 := by decide +kernel
theorem dX7_mark_0 : decode cX7_mark 0 = .ok (.aload_n 0, 1) := dk_42 (dk_at dksX7_mark_0 0 rfl rfl)
theorem dX7_mark_1 : decode cX7_mark 1 = .ok (.iload_n 1, 1) := dk_27 (dk_at dksX7_mark_0 1 rfl rfl)
theorem dX7_mark_2 : decode cX7_mark 2 = .ok (.invokestatic 155, 3) := dk_184 0 155 (dk_at dksX7_mark_0 2 rfl rfl)
theorem dX7_mark_5 : decode cX7_mark 5 = .ok (.iconst 1, 1) := dk_4 (dk_at dksX7_mark_0 5 rfl rfl)
theorem dX7_mark_6 : decode cX7_mark 6 = .ok (.invokevirtual 105, 3) := dk_182 0 105 (dk_at dksX7_mark_0 6 rfl rfl)
theorem dX7_mark_9 : decode cX7_mark 9 = .ok (.ifCond .eq 7, 3) := dk_153 0 7 (dk_at dksX7_mark_0 9 rfl rfl)
theorem dX7_mark_12 : decode cX7_mark 12 = .ok (.iconst 0, 1) := dk_3 (dk_at dksX7_mark_0 12 rfl rfl)
theorem dX7_mark_13 : decode cX7_mark 13 = .ok (.goto 9, 3) := dk_167 0 9 (dk_at dksX7_mark_0 13 rfl rfl)
theorem dX7_mark_16 : decode cX7_mark 16 = .ok (.aload_n 0, 1) := dk_42 (dk_at dksX7_mark_0 16 rfl rfl)
theorem dX7_mark_17 : decode cX7_mark 17 = .ok (.getfield 32, 3) := dk_180 0 32 (dk_at dksX7_mark_0 17 rfl rfl)
theorem dX7_mark_20 : decode cX7_mark 20 = .ok (.iload_n 1, 1) := dk_27 (dk_at dksX7_mark_0 20 rfl rfl)
theorem dX7_mark_21 : decode cX7_mark 21 = .ok (.iaload, 1) := dk_46 (dk_at dksX7_mark_0 21 rfl rfl)
theorem dX7_mark_22 : decode cX7_mark 22 = .ok (.ireturn, 1) := dk_172 (dk_at dksX7_mark_0 22 rfl rfl)
abbrev cX7_ofClient : ByteArray := prog_15_method_48_code
def yX7_ofClient : MethodName := ⟨RX7, "ofClient", "(II)I"⟩
def dkwX7_ofClient_1 : List UInt8 := [167, 0, 4, 3, 5, 182, 0, 51, 153, 0, 7, 3, 167, 0, 9, 42, 27, 28, 182, 1, 38, 172]
abbrev dktX7_ofClient_1 : List UInt8 := dkwX7_ofClient_1 ++ []
def dkwX7_ofClient_0 : List UInt8 := [42, 27, 184, 0, 155, 4, 182, 0, 105, 154, 0, 25, 42, 28, 3, 5, 184, 0, 55, 154, 0, 7, 4]
abbrev dktX7_ofClient_0 : List UInt8 := dkwX7_ofClient_0 ++ dktX7_ofClient_1
theorem dksX7_ofClient_0 : cX7_ofClient.data.toList.drop 0 = dktX7_ofClient_0 := by decide +kernel
theorem dksX7_ofClient_1 : cX7_ofClient.data.toList.drop 23 = dktX7_ofClient_1 := dk_seg dksX7_ofClient_0 23 rfl rfl
theorem dX7_ofClient_0 : decode cX7_ofClient 0 = .ok (.aload_n 0, 1) := dk_42 (dk_at dksX7_ofClient_0 0 rfl rfl)
theorem dX7_ofClient_1 : decode cX7_ofClient 1 = .ok (.iload_n 1, 1) := dk_27 (dk_at dksX7_ofClient_0 1 rfl rfl)
theorem dX7_ofClient_2 : decode cX7_ofClient 2 = .ok (.invokestatic 155, 3) := dk_184 0 155 (dk_at dksX7_ofClient_0 2 rfl rfl)
theorem dX7_ofClient_5 : decode cX7_ofClient 5 = .ok (.iconst 1, 1) := dk_4 (dk_at dksX7_ofClient_0 5 rfl rfl)
theorem dX7_ofClient_6 : decode cX7_ofClient 6 = .ok (.invokevirtual 105, 3) := dk_182 0 105 (dk_at dksX7_ofClient_0 6 rfl rfl)
theorem dX7_ofClient_9 : decode cX7_ofClient 9 = .ok (.ifCond .ne 25, 3) := dk_154 0 25 (dk_at dksX7_ofClient_0 9 rfl rfl)
theorem dX7_ofClient_12 : decode cX7_ofClient 12 = .ok (.aload_n 0, 1) := dk_42 (dk_at dksX7_ofClient_0 12 rfl rfl)
theorem dX7_ofClient_13 : decode cX7_ofClient 13 = .ok (.iload_n 2, 1) := dk_28 (dk_at dksX7_ofClient_0 13 rfl rfl)
theorem dX7_ofClient_14 : decode cX7_ofClient 14 = .ok (.iconst 0, 1) := dk_3 (dk_at dksX7_ofClient_0 14 rfl rfl)
theorem dX7_ofClient_15 : decode cX7_ofClient 15 = .ok (.iconst 2, 1) := dk_5 (dk_at dksX7_ofClient_0 15 rfl rfl)
theorem dX7_ofClient_16 : decode cX7_ofClient 16 = .ok (.invokestatic 55, 3) := dk_184 0 55 (dk_at dksX7_ofClient_0 16 rfl rfl)
theorem dX7_ofClient_19 : decode cX7_ofClient 19 = .ok (.ifCond .ne 7, 3) := dk_154 0 7 (dk_at dksX7_ofClient_0 19 rfl rfl)
theorem dX7_ofClient_22 : decode cX7_ofClient 22 = .ok (.iconst 1, 1) := dk_4 (dk_at dksX7_ofClient_0 22 rfl rfl)
theorem dX7_ofClient_23 : decode cX7_ofClient 23 = .ok (.goto 4, 3) := dk_167 0 4 (dk_at dksX7_ofClient_1 0 rfl rfl)
theorem dX7_ofClient_26 : decode cX7_ofClient 26 = .ok (.iconst 0, 1) := dk_3 (dk_at dksX7_ofClient_1 3 rfl rfl)
theorem dX7_ofClient_27 : decode cX7_ofClient 27 = .ok (.iconst 2, 1) := dk_5 (dk_at dksX7_ofClient_1 4 rfl rfl)
theorem dX7_ofClient_28 : decode cX7_ofClient 28 = .ok (.invokevirtual 51, 3) := dk_182 0 51 (dk_at dksX7_ofClient_1 5 rfl rfl)
theorem dX7_ofClient_31 : decode cX7_ofClient 31 = .ok (.ifCond .eq 7, 3) := dk_153 0 7 (dk_at dksX7_ofClient_1 8 rfl rfl)
theorem dX7_ofClient_34 : decode cX7_ofClient 34 = .ok (.iconst 0, 1) := dk_3 (dk_at dksX7_ofClient_1 11 rfl rfl)
theorem dX7_ofClient_35 : decode cX7_ofClient 35 = .ok (.goto 9, 3) := dk_167 0 9 (dk_at dksX7_ofClient_1 12 rfl rfl)
theorem dX7_ofClient_38 : decode cX7_ofClient 38 = .ok (.aload_n 0, 1) := dk_42 (dk_at dksX7_ofClient_1 15 rfl rfl)
theorem dX7_ofClient_39 : decode cX7_ofClient 39 = .ok (.iload_n 1, 1) := dk_27 (dk_at dksX7_ofClient_1 16 rfl rfl)
theorem dX7_ofClient_40 : decode cX7_ofClient 40 = .ok (.iload_n 2, 1) := dk_28 (dk_at dksX7_ofClient_1 17 rfl rfl)
theorem dX7_ofClient_41 : decode cX7_ofClient 41 = .ok (.invokevirtual 294, 3) := dk_182 1 38 (dk_at dksX7_ofClient_1 18 rfl rfl)
theorem dX7_ofClient_44 : decode cX7_ofClient 44 = .ok (.ireturn, 1) := dk_172 (dk_at dksX7_ofClient_1 21 rfl rfl)
abbrev cX7_clientTold : ByteArray := prog_15_method_47_code
def yX7_clientTold : MethodName := ⟨RX7, "clientTold", "(II)I"⟩
def dkwX7_clientTold_2 : List UInt8 := [46, 172]
abbrev dktX7_clientTold_2 : List UInt8 := dkwX7_clientTold_2 ++ []
def dkwX7_clientTold_1 : List UInt8 := [184, 0, 210, 79, 89, 5, 42, 180, 0, 12, 182, 0, 59, 42, 180, 0, 36, 27, 46, 100, 79, 78, 45, 28]
abbrev dktX7_clientTold_1 : List UInt8 := dkwX7_clientTold_1 ++ dktX7_clientTold_2
def dkwX7_clientTold_0 : List UInt8 := [6, 188, 10, 89, 3, 42, 180, 0, 36, 27, 46, 184, 0, 207, 79, 89, 4, 42, 180, 0, 36, 27, 46]
abbrev dktX7_clientTold_0 : List UInt8 := dkwX7_clientTold_0 ++ dktX7_clientTold_1
theorem dksX7_clientTold_0 : cX7_clientTold.data.toList.drop 0 = dktX7_clientTold_0 := by decide +kernel
theorem dksX7_clientTold_1 : cX7_clientTold.data.toList.drop 23 = dktX7_clientTold_1 := dk_seg dksX7_clientTold_0 23 rfl rfl
theorem dksX7_clientTold_2 : cX7_clientTold.data.toList.drop 47 = dktX7_clientTold_2 := dk_seg dksX7_clientTold_1 24 rfl rfl
theorem dX7_clientTold_0 : decode cX7_clientTold 0 = .ok (.iconst 3, 1) := dk_6 (dk_at dksX7_clientTold_0 0 rfl rfl)
theorem dX7_clientTold_1 : decode cX7_clientTold 1 = .ok (.newarray .int, 2) := dk_188_10 (dk_at dksX7_clientTold_0 1 rfl rfl)
theorem dX7_clientTold_3 : decode cX7_clientTold 3 = .ok (.dup, 1) := dk_89 (dk_at dksX7_clientTold_0 3 rfl rfl)
theorem dX7_clientTold_4 : decode cX7_clientTold 4 = .ok (.iconst 0, 1) := dk_3 (dk_at dksX7_clientTold_0 4 rfl rfl)
theorem dX7_clientTold_5 : decode cX7_clientTold 5 = .ok (.aload_n 0, 1) := dk_42 (dk_at dksX7_clientTold_0 5 rfl rfl)
theorem dX7_clientTold_6 : decode cX7_clientTold 6 = .ok (.getfield 36, 3) := dk_180 0 36 (dk_at dksX7_clientTold_0 6 rfl rfl)
theorem dX7_clientTold_9 : decode cX7_clientTold 9 = .ok (.iload_n 1, 1) := dk_27 (dk_at dksX7_clientTold_0 9 rfl rfl)
theorem dX7_clientTold_10 : decode cX7_clientTold 10 = .ok (.iaload, 1) := dk_46 (dk_at dksX7_clientTold_0 10 rfl rfl)
theorem dX7_clientTold_11 : decode cX7_clientTold 11 = .ok (.invokestatic 207, 3) := dk_184 0 207 (dk_at dksX7_clientTold_0 11 rfl rfl)
theorem dX7_clientTold_14 : decode cX7_clientTold 14 = .ok (.iastore, 1) := dk_79 (dk_at dksX7_clientTold_0 14 rfl rfl)
theorem dX7_clientTold_15 : decode cX7_clientTold 15 = .ok (.dup, 1) := dk_89 (dk_at dksX7_clientTold_0 15 rfl rfl)
theorem dX7_clientTold_16 : decode cX7_clientTold 16 = .ok (.iconst 1, 1) := dk_4 (dk_at dksX7_clientTold_0 16 rfl rfl)
theorem dX7_clientTold_17 : decode cX7_clientTold 17 = .ok (.aload_n 0, 1) := dk_42 (dk_at dksX7_clientTold_0 17 rfl rfl)
theorem dX7_clientTold_18 : decode cX7_clientTold 18 = .ok (.getfield 36, 3) := dk_180 0 36 (dk_at dksX7_clientTold_0 18 rfl rfl)
theorem dX7_clientTold_21 : decode cX7_clientTold 21 = .ok (.iload_n 1, 1) := dk_27 (dk_at dksX7_clientTold_0 21 rfl rfl)
theorem dX7_clientTold_22 : decode cX7_clientTold 22 = .ok (.iaload, 1) := dk_46 (dk_at dksX7_clientTold_0 22 rfl rfl)
theorem dX7_clientTold_23 : decode cX7_clientTold 23 = .ok (.invokestatic 210, 3) := dk_184 0 210 (dk_at dksX7_clientTold_1 0 rfl rfl)
theorem dX7_clientTold_26 : decode cX7_clientTold 26 = .ok (.iastore, 1) := dk_79 (dk_at dksX7_clientTold_1 3 rfl rfl)
theorem dX7_clientTold_27 : decode cX7_clientTold 27 = .ok (.dup, 1) := dk_89 (dk_at dksX7_clientTold_1 4 rfl rfl)
theorem dX7_clientTold_28 : decode cX7_clientTold 28 = .ok (.iconst 2, 1) := dk_5 (dk_at dksX7_clientTold_1 5 rfl rfl)
theorem dX7_clientTold_29 : decode cX7_clientTold 29 = .ok (.aload_n 0, 1) := dk_42 (dk_at dksX7_clientTold_1 6 rfl rfl)
theorem dX7_clientTold_30 : decode cX7_clientTold 30 = .ok (.getfield 12, 3) := dk_180 0 12 (dk_at dksX7_clientTold_1 7 rfl rfl)
theorem dX7_clientTold_33 : decode cX7_clientTold 33 = .ok (.invokevirtual 59, 3) := dk_182 0 59 (dk_at dksX7_clientTold_1 10 rfl rfl)
theorem dX7_clientTold_36 : decode cX7_clientTold 36 = .ok (.aload_n 0, 1) := dk_42 (dk_at dksX7_clientTold_1 13 rfl rfl)
theorem dX7_clientTold_37 : decode cX7_clientTold 37 = .ok (.getfield 36, 3) := dk_180 0 36 (dk_at dksX7_clientTold_1 14 rfl rfl)
theorem dX7_clientTold_40 : decode cX7_clientTold 40 = .ok (.iload_n 1, 1) := dk_27 (dk_at dksX7_clientTold_1 17 rfl rfl)
theorem dX7_clientTold_41 : decode cX7_clientTold 41 = .ok (.iaload, 1) := dk_46 (dk_at dksX7_clientTold_1 18 rfl rfl)
theorem dX7_clientTold_42 : decode cX7_clientTold 42 = .ok (.isub, 1) := dk_100 (dk_at dksX7_clientTold_1 19 rfl rfl)
theorem dX7_clientTold_43 : decode cX7_clientTold 43 = .ok (.iastore, 1) := dk_79 (dk_at dksX7_clientTold_1 20 rfl rfl)
theorem dX7_clientTold_44 : decode cX7_clientTold 44 = .ok (.astore_n 3, 1) := dk_78 (dk_at dksX7_clientTold_1 21 rfl rfl)
theorem dX7_clientTold_45 : decode cX7_clientTold 45 = .ok (.aload_n 3, 1) := dk_45 (dk_at dksX7_clientTold_1 22 rfl rfl)
theorem dX7_clientTold_46 : decode cX7_clientTold 46 = .ok (.iload_n 2, 1) := dk_28 (dk_at dksX7_clientTold_1 23 rfl rfl)
theorem dX7_clientTold_47 : decode cX7_clientTold 47 = .ok (.iaload, 1) := dk_46 (dk_at dksX7_clientTold_2 0 rfl rfl)
theorem dX7_clientTold_48 : decode cX7_clientTold 48 = .ok (.ireturn, 1) := dk_172 (dk_at dksX7_clientTold_2 1 rfl rfl)
abbrev cX7_seek : ByteArray := prog_15_method_50_code
def yX7_seek : MethodName := ⟨RX7, "seek", "(ZII)I"⟩
def dkwX7_seek_1 : List UInt8 := [153, 0, 7, 3, 167, 0, 10, 42, 27, 28, 29, 182, 1, 45, 172]
abbrev dktX7_seek_1 : List UInt8 := dkwX7_seek_1 ++ []
def dkwX7_seek_0 : List UInt8 := [42, 28, 3, 16, 99, 184, 0, 55, 153, 0, 7, 29, 156, 0, 7, 4, 167, 0, 4, 3, 4, 182, 0, 105]
abbrev dktX7_seek_0 : List UInt8 := dkwX7_seek_0 ++ dktX7_seek_1
theorem dksX7_seek_0 : cX7_seek.data.toList.drop 0 = dktX7_seek_0 := by decide +kernel
theorem dksX7_seek_1 : cX7_seek.data.toList.drop 24 = dktX7_seek_1 := dk_seg dksX7_seek_0 24 rfl rfl
theorem dX7_seek_0 : decode cX7_seek 0 = .ok (.aload_n 0, 1) := dk_42 (dk_at dksX7_seek_0 0 rfl rfl)
theorem dX7_seek_1 : decode cX7_seek 1 = .ok (.iload_n 2, 1) := dk_28 (dk_at dksX7_seek_0 1 rfl rfl)
theorem dX7_seek_2 : decode cX7_seek 2 = .ok (.iconst 0, 1) := dk_3 (dk_at dksX7_seek_0 2 rfl rfl)
theorem dX7_seek_3 : decode cX7_seek 3 = .ok (.bipush 99, 2) := dk_16 99 (dk_at dksX7_seek_0 3 rfl rfl)
theorem dX7_seek_5 : decode cX7_seek 5 = .ok (.invokestatic 55, 3) := dk_184 0 55 (dk_at dksX7_seek_0 5 rfl rfl)
theorem dX7_seek_8 : decode cX7_seek 8 = .ok (.ifCond .eq 7, 3) := dk_153 0 7 (dk_at dksX7_seek_0 8 rfl rfl)
theorem dX7_seek_11 : decode cX7_seek 11 = .ok (.iload_n 3, 1) := dk_29 (dk_at dksX7_seek_0 11 rfl rfl)
theorem dX7_seek_12 : decode cX7_seek 12 = .ok (.ifCond .ge 7, 3) := dk_156 0 7 (dk_at dksX7_seek_0 12 rfl rfl)
theorem dX7_seek_15 : decode cX7_seek 15 = .ok (.iconst 1, 1) := dk_4 (dk_at dksX7_seek_0 15 rfl rfl)
theorem dX7_seek_16 : decode cX7_seek 16 = .ok (.goto 4, 3) := dk_167 0 4 (dk_at dksX7_seek_0 16 rfl rfl)
theorem dX7_seek_19 : decode cX7_seek 19 = .ok (.iconst 0, 1) := dk_3 (dk_at dksX7_seek_0 19 rfl rfl)
theorem dX7_seek_20 : decode cX7_seek 20 = .ok (.iconst 1, 1) := dk_4 (dk_at dksX7_seek_0 20 rfl rfl)
theorem dX7_seek_21 : decode cX7_seek 21 = .ok (.invokevirtual 105, 3) := dk_182 0 105 (dk_at dksX7_seek_0 21 rfl rfl)
theorem dX7_seek_24 : decode cX7_seek 24 = .ok (.ifCond .eq 7, 3) := dk_153 0 7 (dk_at dksX7_seek_1 0 rfl rfl)
theorem dX7_seek_27 : decode cX7_seek 27 = .ok (.iconst 0, 1) := dk_3 (dk_at dksX7_seek_1 3 rfl rfl)
theorem dX7_seek_28 : decode cX7_seek 28 = .ok (.goto 10, 3) := dk_167 0 10 (dk_at dksX7_seek_1 4 rfl rfl)
theorem dX7_seek_31 : decode cX7_seek 31 = .ok (.aload_n 0, 1) := dk_42 (dk_at dksX7_seek_1 7 rfl rfl)
theorem dX7_seek_32 : decode cX7_seek 32 = .ok (.iload_n 1, 1) := dk_27 (dk_at dksX7_seek_1 8 rfl rfl)
theorem dX7_seek_33 : decode cX7_seek 33 = .ok (.iload_n 2, 1) := dk_28 (dk_at dksX7_seek_1 9 rfl rfl)
theorem dX7_seek_34 : decode cX7_seek 34 = .ok (.iload_n 3, 1) := dk_29 (dk_at dksX7_seek_1 10 rfl rfl)
theorem dX7_seek_35 : decode cX7_seek 35 = .ok (.invokevirtual 301, 3) := dk_182 1 45 (dk_at dksX7_seek_1 11 rfl rfl)
theorem dX7_seek_38 : decode cX7_seek 38 = .ok (.ireturn, 1) := dk_172 (dk_at dksX7_seek_1 14 rfl rfl)
abbrev cX7_seekTold : ByteArray := prog_15_method_49_code
def yX7_seekTold : MethodName := ⟨RX7, "seekTold", "(ZII)I"⟩
def dkwX7_seekTold_6 : List UInt8 := [167, 255, 184, 21, 6, 29, 160, 0, 8, 25, 5, 3, 46, 172, 167, 255, 118, 2, 172]
abbrev dktX7_seekTold_6 : List UInt8 := dkwX7_seekTold_6 ++ []
def dkwX7_seekTold_5 : List UInt8 := [180, 0, 12, 25, 5, 3, 46, 182, 0, 158, 162, 0, 7, 4, 167, 0, 4, 3, 184, 0, 151, 96, 54, 6]
abbrev dktX7_seekTold_5 : List UInt8 := dkwX7_seekTold_5 ++ dktX7_seekTold_6
def dkwX7_seekTold_4 : List UInt8 := [3, 46, 27, 184, 1, 41, 28, 160, 0, 32, 42, 180, 0, 12, 25, 8, 3, 46, 182, 0, 158, 42]
abbrev dktX7_seekTold_4 : List UInt8 := dkwX7_seekTold_4 ++ dktX7_seekTold_5
def dkwX7_seekTold_3 : List UInt8 := [185, 0, 67, 1, 0, 153, 0, 68, 25, 7, 185, 0, 73, 1, 0, 192, 0, 77, 58, 8, 21, 6, 25, 8]
abbrev dktX7_seekTold_3 : List UInt8 := dkwX7_seekTold_3 ++ dktX7_seekTold_4
def dkwX7_seekTold_2 : List UInt8 := [167, 255, 222, 3, 54, 6, 42, 180, 0, 12, 182, 0, 161, 182, 0, 63, 58, 7, 25, 7]
abbrev dktX7_seekTold_2 : List UInt8 := dkwX7_seekTold_2 ++ dktX7_seekTold_3
def dkwX7_seekTold_1 : List UInt8 := [185, 0, 73, 1, 0, 192, 0, 77, 58, 5, 25, 5, 3, 46, 27, 184, 1, 41, 28, 159, 0, 6]
abbrev dktX7_seekTold_1 : List UInt8 := dkwX7_seekTold_1 ++ dktX7_seekTold_2
def dkwX7_seekTold_0 : List UInt8 := [42, 180, 0, 12, 182, 0, 161, 182, 0, 63, 58, 4, 25, 4, 185, 0, 67, 1, 0, 153, 0, 134, 25, 4]
abbrev dktX7_seekTold_0 : List UInt8 := dkwX7_seekTold_0 ++ dktX7_seekTold_1
theorem dksX7_seekTold_0 : cX7_seekTold.data.toList.drop 0 = dktX7_seekTold_0 := by decide +kernel
theorem dksX7_seekTold_1 : cX7_seekTold.data.toList.drop 24 = dktX7_seekTold_1 := dk_seg dksX7_seekTold_0 24 rfl rfl
theorem dksX7_seekTold_2 : cX7_seekTold.data.toList.drop 46 = dktX7_seekTold_2 := dk_seg dksX7_seekTold_1 22 rfl rfl
theorem dksX7_seekTold_3 : cX7_seekTold.data.toList.drop 66 = dktX7_seekTold_3 := dk_seg dksX7_seekTold_2 20 rfl rfl
theorem dksX7_seekTold_4 : cX7_seekTold.data.toList.drop 90 = dktX7_seekTold_4 := dk_seg dksX7_seekTold_3 24 rfl rfl
theorem dksX7_seekTold_5 : cX7_seekTold.data.toList.drop 112 = dktX7_seekTold_5 := dk_seg dksX7_seekTold_4 22 rfl rfl
theorem dksX7_seekTold_6 : cX7_seekTold.data.toList.drop 136 = dktX7_seekTold_6 := dk_seg dksX7_seekTold_5 24 rfl rfl
theorem dX7_seekTold_0 : decode cX7_seekTold 0 = .ok (.aload_n 0, 1) := dk_42 (dk_at dksX7_seekTold_0 0 rfl rfl)
theorem dX7_seekTold_1 : decode cX7_seekTold 1 = .ok (.getfield 12, 3) := dk_180 0 12 (dk_at dksX7_seekTold_0 1 rfl rfl)
theorem dX7_seekTold_4 : decode cX7_seekTold 4 = .ok (.invokevirtual 161, 3) := dk_182 0 161 (dk_at dksX7_seekTold_0 4 rfl rfl)
theorem dX7_seekTold_7 : decode cX7_seekTold 7 = .ok (.invokevirtual 63, 3) := dk_182 0 63 (dk_at dksX7_seekTold_0 7 rfl rfl)
theorem dX7_seekTold_10 : decode cX7_seekTold 10 = .ok (.astore 4, 2) := dk_58 4 (dk_at dksX7_seekTold_0 10 rfl rfl)
theorem dX7_seekTold_12 : decode cX7_seekTold 12 = .ok (.aload 4, 2) := dk_25 4 (dk_at dksX7_seekTold_0 12 rfl rfl)
theorem dX7_seekTold_14 : decode cX7_seekTold 14 = .ok (.invokeinterface 67 1, 5) := by decide +kernel
theorem dX7_seekTold_19 : decode cX7_seekTold 19 = .ok (.ifCond .eq 134, 3) := dk_153 0 134 (dk_at dksX7_seekTold_0 19 rfl rfl)
theorem dX7_seekTold_22 : decode cX7_seekTold 22 = .ok (.aload 4, 2) := dk_25 4 (dk_at dksX7_seekTold_0 22 rfl rfl)
theorem dX7_seekTold_24 : decode cX7_seekTold 24 = .ok (.invokeinterface 73 1, 5) := by decide +kernel
theorem dX7_seekTold_29 : decode cX7_seekTold 29 = .ok (.checkcast 77, 3) := dk_192 0 77 (dk_at dksX7_seekTold_1 5 rfl rfl)
theorem dX7_seekTold_32 : decode cX7_seekTold 32 = .ok (.astore 5, 2) := dk_58 5 (dk_at dksX7_seekTold_1 8 rfl rfl)
theorem dX7_seekTold_34 : decode cX7_seekTold 34 = .ok (.aload 5, 2) := dk_25 5 (dk_at dksX7_seekTold_1 10 rfl rfl)
theorem dX7_seekTold_36 : decode cX7_seekTold 36 = .ok (.iconst 0, 1) := dk_3 (dk_at dksX7_seekTold_1 12 rfl rfl)
theorem dX7_seekTold_37 : decode cX7_seekTold 37 = .ok (.iaload, 1) := dk_46 (dk_at dksX7_seekTold_1 13 rfl rfl)
theorem dX7_seekTold_38 : decode cX7_seekTold 38 = .ok (.iload_n 1, 1) := dk_27 (dk_at dksX7_seekTold_1 14 rfl rfl)
theorem dX7_seekTold_39 : decode cX7_seekTold 39 = .ok (.invokestatic 297, 3) := dk_184 1 41 (dk_at dksX7_seekTold_1 15 rfl rfl)
theorem dX7_seekTold_42 : decode cX7_seekTold 42 = .ok (.iload_n 2, 1) := dk_28 (dk_at dksX7_seekTold_1 18 rfl rfl)
theorem dX7_seekTold_43 : decode cX7_seekTold 43 = .ok (.if_icmp .eq 6, 3) := dk_159 0 6 (dk_at dksX7_seekTold_1 19 rfl rfl)
theorem dX7_seekTold_46 : decode cX7_seekTold 46 = .ok (.goto (-34), 3) := dk_167 255 222 (dk_at dksX7_seekTold_2 0 rfl rfl)
theorem dX7_seekTold_49 : decode cX7_seekTold 49 = .ok (.iconst 0, 1) := dk_3 (dk_at dksX7_seekTold_2 3 rfl rfl)
theorem dX7_seekTold_50 : decode cX7_seekTold 50 = .ok (.istore 6, 2) := dk_54 6 (dk_at dksX7_seekTold_2 4 rfl rfl)
theorem dX7_seekTold_52 : decode cX7_seekTold 52 = .ok (.aload_n 0, 1) := dk_42 (dk_at dksX7_seekTold_2 6 rfl rfl)
theorem dX7_seekTold_53 : decode cX7_seekTold 53 = .ok (.getfield 12, 3) := dk_180 0 12 (dk_at dksX7_seekTold_2 7 rfl rfl)
theorem dX7_seekTold_56 : decode cX7_seekTold 56 = .ok (.invokevirtual 161, 3) := dk_182 0 161 (dk_at dksX7_seekTold_2 10 rfl rfl)
theorem dX7_seekTold_59 : decode cX7_seekTold 59 = .ok (.invokevirtual 63, 3) := dk_182 0 63 (dk_at dksX7_seekTold_2 13 rfl rfl)
theorem dX7_seekTold_62 : decode cX7_seekTold 62 = .ok (.astore 7, 2) := dk_58 7 (dk_at dksX7_seekTold_2 16 rfl rfl)
theorem dX7_seekTold_64 : decode cX7_seekTold 64 = .ok (.aload 7, 2) := dk_25 7 (dk_at dksX7_seekTold_2 18 rfl rfl)
theorem dX7_seekTold_66 : decode cX7_seekTold 66 = .ok (.invokeinterface 67 1, 5) := by decide +kernel
theorem dX7_seekTold_71 : decode cX7_seekTold 71 = .ok (.ifCond .eq 68, 3) := dk_153 0 68 (dk_at dksX7_seekTold_3 5 rfl rfl)
theorem dX7_seekTold_74 : decode cX7_seekTold 74 = .ok (.aload 7, 2) := dk_25 7 (dk_at dksX7_seekTold_3 8 rfl rfl)
theorem dX7_seekTold_76 : decode cX7_seekTold 76 = .ok (.invokeinterface 73 1, 5) := by decide +kernel
theorem dX7_seekTold_81 : decode cX7_seekTold 81 = .ok (.checkcast 77, 3) := dk_192 0 77 (dk_at dksX7_seekTold_3 15 rfl rfl)
theorem dX7_seekTold_84 : decode cX7_seekTold 84 = .ok (.astore 8, 2) := dk_58 8 (dk_at dksX7_seekTold_3 18 rfl rfl)
theorem dX7_seekTold_86 : decode cX7_seekTold 86 = .ok (.iload 6, 2) := dk_21 6 (dk_at dksX7_seekTold_3 20 rfl rfl)
theorem dX7_seekTold_88 : decode cX7_seekTold 88 = .ok (.aload 8, 2) := dk_25 8 (dk_at dksX7_seekTold_3 22 rfl rfl)
theorem dX7_seekTold_90 : decode cX7_seekTold 90 = .ok (.iconst 0, 1) := dk_3 (dk_at dksX7_seekTold_4 0 rfl rfl)
theorem dX7_seekTold_91 : decode cX7_seekTold 91 = .ok (.iaload, 1) := dk_46 (dk_at dksX7_seekTold_4 1 rfl rfl)
theorem dX7_seekTold_92 : decode cX7_seekTold 92 = .ok (.iload_n 1, 1) := dk_27 (dk_at dksX7_seekTold_4 2 rfl rfl)
theorem dX7_seekTold_93 : decode cX7_seekTold 93 = .ok (.invokestatic 297, 3) := dk_184 1 41 (dk_at dksX7_seekTold_4 3 rfl rfl)
theorem dX7_seekTold_96 : decode cX7_seekTold 96 = .ok (.iload_n 2, 1) := dk_28 (dk_at dksX7_seekTold_4 6 rfl rfl)
theorem dX7_seekTold_97 : decode cX7_seekTold 97 = .ok (.if_icmp .ne 32, 3) := dk_160 0 32 (dk_at dksX7_seekTold_4 7 rfl rfl)
theorem dX7_seekTold_100 : decode cX7_seekTold 100 = .ok (.aload_n 0, 1) := dk_42 (dk_at dksX7_seekTold_4 10 rfl rfl)
theorem dX7_seekTold_101 : decode cX7_seekTold 101 = .ok (.getfield 12, 3) := dk_180 0 12 (dk_at dksX7_seekTold_4 11 rfl rfl)
theorem dX7_seekTold_104 : decode cX7_seekTold 104 = .ok (.aload 8, 2) := dk_25 8 (dk_at dksX7_seekTold_4 14 rfl rfl)
theorem dX7_seekTold_106 : decode cX7_seekTold 106 = .ok (.iconst 0, 1) := dk_3 (dk_at dksX7_seekTold_4 16 rfl rfl)
theorem dX7_seekTold_107 : decode cX7_seekTold 107 = .ok (.iaload, 1) := dk_46 (dk_at dksX7_seekTold_4 17 rfl rfl)
theorem dX7_seekTold_108 : decode cX7_seekTold 108 = .ok (.invokevirtual 158, 3) := dk_182 0 158 (dk_at dksX7_seekTold_4 18 rfl rfl)
theorem dX7_seekTold_111 : decode cX7_seekTold 111 = .ok (.aload_n 0, 1) := dk_42 (dk_at dksX7_seekTold_4 21 rfl rfl)
theorem dX7_seekTold_112 : decode cX7_seekTold 112 = .ok (.getfield 12, 3) := dk_180 0 12 (dk_at dksX7_seekTold_5 0 rfl rfl)
theorem dX7_seekTold_115 : decode cX7_seekTold 115 = .ok (.aload 5, 2) := dk_25 5 (dk_at dksX7_seekTold_5 3 rfl rfl)
theorem dX7_seekTold_117 : decode cX7_seekTold 117 = .ok (.iconst 0, 1) := dk_3 (dk_at dksX7_seekTold_5 5 rfl rfl)
theorem dX7_seekTold_118 : decode cX7_seekTold 118 = .ok (.iaload, 1) := dk_46 (dk_at dksX7_seekTold_5 6 rfl rfl)
theorem dX7_seekTold_119 : decode cX7_seekTold 119 = .ok (.invokevirtual 158, 3) := dk_182 0 158 (dk_at dksX7_seekTold_5 7 rfl rfl)
theorem dX7_seekTold_122 : decode cX7_seekTold 122 = .ok (.if_icmp .ge 7, 3) := dk_162 0 7 (dk_at dksX7_seekTold_5 10 rfl rfl)
theorem dX7_seekTold_125 : decode cX7_seekTold 125 = .ok (.iconst 1, 1) := dk_4 (dk_at dksX7_seekTold_5 13 rfl rfl)
theorem dX7_seekTold_126 : decode cX7_seekTold 126 = .ok (.goto 4, 3) := dk_167 0 4 (dk_at dksX7_seekTold_5 14 rfl rfl)
theorem dX7_seekTold_129 : decode cX7_seekTold 129 = .ok (.iconst 0, 1) := dk_3 (dk_at dksX7_seekTold_5 17 rfl rfl)
theorem dX7_seekTold_130 : decode cX7_seekTold 130 = .ok (.invokestatic 151, 3) := dk_184 0 151 (dk_at dksX7_seekTold_5 18 rfl rfl)
theorem dX7_seekTold_133 : decode cX7_seekTold 133 = .ok (.iadd, 1) := dk_96 (dk_at dksX7_seekTold_5 21 rfl rfl)
theorem dX7_seekTold_134 : decode cX7_seekTold 134 = .ok (.istore 6, 2) := dk_54 6 (dk_at dksX7_seekTold_5 22 rfl rfl)
theorem dX7_seekTold_136 : decode cX7_seekTold 136 = .ok (.goto (-72), 3) := dk_167 255 184 (dk_at dksX7_seekTold_6 0 rfl rfl)
theorem dX7_seekTold_139 : decode cX7_seekTold 139 = .ok (.iload 6, 2) := dk_21 6 (dk_at dksX7_seekTold_6 3 rfl rfl)
theorem dX7_seekTold_141 : decode cX7_seekTold 141 = .ok (.iload_n 3, 1) := dk_29 (dk_at dksX7_seekTold_6 5 rfl rfl)
theorem dX7_seekTold_142 : decode cX7_seekTold 142 = .ok (.if_icmp .ne 8, 3) := dk_160 0 8 (dk_at dksX7_seekTold_6 6 rfl rfl)
theorem dX7_seekTold_145 : decode cX7_seekTold 145 = .ok (.aload 5, 2) := dk_25 5 (dk_at dksX7_seekTold_6 9 rfl rfl)
theorem dX7_seekTold_147 : decode cX7_seekTold 147 = .ok (.iconst 0, 1) := dk_3 (dk_at dksX7_seekTold_6 11 rfl rfl)
theorem dX7_seekTold_148 : decode cX7_seekTold 148 = .ok (.iaload, 1) := dk_46 (dk_at dksX7_seekTold_6 12 rfl rfl)
theorem dX7_seekTold_149 : decode cX7_seekTold 149 = .ok (.ireturn, 1) := dk_172 (dk_at dksX7_seekTold_6 13 rfl rfl)
theorem dX7_seekTold_150 : decode cX7_seekTold 150 = .ok (.goto (-138), 3) := dk_167 255 118 (dk_at dksX7_seekTold_6 14 rfl rfl)
theorem dX7_seekTold_153 : decode cX7_seekTold 153 = .ok (.iconst (-1), 1) := dk_2 (dk_at dksX7_seekTold_6 17 rfl rfl)
theorem dX7_seekTold_154 : decode cX7_seekTold 154 = .ok (.ireturn, 1) := dk_172 (dk_at dksX7_seekTold_6 18 rfl rfl)
abbrev cX7_field : ByteArray := prog_15_method_10_code
def yX7_field : MethodName := ⟨RX7, "field", "(IZ)I"⟩
def dkwX7_field_0 : List UInt8 := [27, 153, 0, 10, 26, 16, 100, 108, 167, 0, 7, 26, 16, 100, 112, 172]
abbrev dktX7_field_0 : List UInt8 := dkwX7_field_0 ++ []
theorem dksX7_field_0 : cX7_field.data.toList.drop 0 = dktX7_field_0 := by decide +kernel
theorem dX7_field_0 : decode cX7_field 0 = .ok (.iload_n 1, 1) := dk_27 (dk_at dksX7_field_0 0 rfl rfl)
theorem dX7_field_1 : decode cX7_field 1 = .ok (.ifCond .eq 10, 3) := dk_153 0 10 (dk_at dksX7_field_0 1 rfl rfl)
theorem dX7_field_4 : decode cX7_field 4 = .ok (.iload_n 0, 1) := dk_26 (dk_at dksX7_field_0 4 rfl rfl)
theorem dX7_field_5 : decode cX7_field 5 = .ok (.bipush 100, 2) := dk_16 100 (dk_at dksX7_field_0 5 rfl rfl)
theorem dX7_field_7 : decode cX7_field 7 = .ok (.idiv, 1) := dk_108 (dk_at dksX7_field_0 7 rfl rfl)
theorem dX7_field_8 : decode cX7_field 8 = .ok (.goto 7, 3) := dk_167 0 7 (dk_at dksX7_field_0 8 rfl rfl)
theorem dX7_field_11 : decode cX7_field 11 = .ok (.iload_n 0, 1) := dk_26 (dk_at dksX7_field_0 11 rfl rfl)
theorem dX7_field_12 : decode cX7_field 12 = .ok (.bipush 100, 2) := dk_16 100 (dk_at dksX7_field_0 12 rfl rfl)
theorem dX7_field_14 : decode cX7_field 14 = .ok (.irem, 1) := dk_112 (dk_at dksX7_field_0 14 rfl rfl)
theorem dX7_field_15 : decode cX7_field 15 = .ok (.ireturn, 1) := dk_172 (dk_at dksX7_field_0 15 rfl rfl)
abbrev cX7_visits : ByteArray := prog_15_method_51_code
def yX7_visits : MethodName := ⟨RX7, "visits", "(ZI)I"⟩
def dkwX7_visits_1 : List UInt8 := [167, 0, 12, 42, 180, 0, 12, 27, 28, 182, 1, 49, 172]
abbrev dktX7_visits_1 : List UInt8 := dkwX7_visits_1 ++ []
def dkwX7_visits_0 : List UInt8 := [42, 28, 3, 16, 99, 184, 0, 55, 154, 0, 7, 4, 167, 0, 4, 3, 4, 182, 0, 105, 153, 0, 7, 3]
abbrev dktX7_visits_0 : List UInt8 := dkwX7_visits_0 ++ dktX7_visits_1
theorem dksX7_visits_0 : cX7_visits.data.toList.drop 0 = dktX7_visits_0 := by decide +kernel
theorem dksX7_visits_1 : cX7_visits.data.toList.drop 24 = dktX7_visits_1 := dk_seg dksX7_visits_0 24 rfl rfl
theorem dX7_visits_0 : decode cX7_visits 0 = .ok (.aload_n 0, 1) := dk_42 (dk_at dksX7_visits_0 0 rfl rfl)
theorem dX7_visits_1 : decode cX7_visits 1 = .ok (.iload_n 2, 1) := dk_28 (dk_at dksX7_visits_0 1 rfl rfl)
theorem dX7_visits_2 : decode cX7_visits 2 = .ok (.iconst 0, 1) := dk_3 (dk_at dksX7_visits_0 2 rfl rfl)
theorem dX7_visits_3 : decode cX7_visits 3 = .ok (.bipush 99, 2) := dk_16 99 (dk_at dksX7_visits_0 3 rfl rfl)
theorem dX7_visits_5 : decode cX7_visits 5 = .ok (.invokestatic 55, 3) := dk_184 0 55 (dk_at dksX7_visits_0 5 rfl rfl)
theorem dX7_visits_8 : decode cX7_visits 8 = .ok (.ifCond .ne 7, 3) := dk_154 0 7 (dk_at dksX7_visits_0 8 rfl rfl)
theorem dX7_visits_11 : decode cX7_visits 11 = .ok (.iconst 1, 1) := dk_4 (dk_at dksX7_visits_0 11 rfl rfl)
theorem dX7_visits_12 : decode cX7_visits 12 = .ok (.goto 4, 3) := dk_167 0 4 (dk_at dksX7_visits_0 12 rfl rfl)
theorem dX7_visits_15 : decode cX7_visits 15 = .ok (.iconst 0, 1) := dk_3 (dk_at dksX7_visits_0 15 rfl rfl)
theorem dX7_visits_16 : decode cX7_visits 16 = .ok (.iconst 1, 1) := dk_4 (dk_at dksX7_visits_0 16 rfl rfl)
theorem dX7_visits_17 : decode cX7_visits 17 = .ok (.invokevirtual 105, 3) := dk_182 0 105 (dk_at dksX7_visits_0 17 rfl rfl)
theorem dX7_visits_20 : decode cX7_visits 20 = .ok (.ifCond .eq 7, 3) := dk_153 0 7 (dk_at dksX7_visits_0 20 rfl rfl)
theorem dX7_visits_23 : decode cX7_visits 23 = .ok (.iconst 0, 1) := dk_3 (dk_at dksX7_visits_0 23 rfl rfl)
theorem dX7_visits_24 : decode cX7_visits 24 = .ok (.goto 12, 3) := dk_167 0 12 (dk_at dksX7_visits_1 0 rfl rfl)
theorem dX7_visits_27 : decode cX7_visits 27 = .ok (.aload_n 0, 1) := dk_42 (dk_at dksX7_visits_1 3 rfl rfl)
theorem dX7_visits_28 : decode cX7_visits 28 = .ok (.getfield 12, 3) := dk_180 0 12 (dk_at dksX7_visits_1 4 rfl rfl)
theorem dX7_visits_31 : decode cX7_visits 31 = .ok (.iload_n 1, 1) := dk_27 (dk_at dksX7_visits_1 7 rfl rfl)
theorem dX7_visits_32 : decode cX7_visits 32 = .ok (.iload_n 2, 1) := dk_28 (dk_at dksX7_visits_1 8 rfl rfl)
theorem dX7_visits_33 : decode cX7_visits 33 = .ok (.invokevirtual 305, 3) := dk_182 1 49 (dk_at dksX7_visits_1 9 rfl rfl)
theorem dX7_visits_36 : decode cX7_visits 36 = .ok (.ireturn, 1) := dk_172 (dk_at dksX7_visits_1 12 rfl rfl)
abbrev cX7_would : ByteArray := prog_15_method_53_code
def yX7_would : MethodName := ⟨RX7, "would", "(III)I"⟩
def dkwX7_would_2 : List UInt8 := [27, 28, 29, 182, 1, 53, 172]
abbrev dktX7_would_2 : List UInt8 := dkwX7_would_2 ++ []
def dkwX7_would_1 : List UInt8 := [6, 184, 0, 55, 154, 0, 7, 4, 167, 0, 4, 3, 4, 182, 0, 105, 153, 0, 7, 3, 167, 0, 10, 42]
abbrev dktX7_would_1 : List UInt8 := dkwX7_would_1 ++ dktX7_would_2
def dkwX7_would_0 : List UInt8 := [42, 27, 3, 17, 3, 255, 184, 0, 55, 153, 0, 22, 28, 3, 16, 9, 184, 0, 55, 153, 0, 12, 29, 3]
abbrev dktX7_would_0 : List UInt8 := dkwX7_would_0 ++ dktX7_would_1
theorem dksX7_would_0 : cX7_would.data.toList.drop 0 = dktX7_would_0 := by decide +kernel
theorem dksX7_would_1 : cX7_would.data.toList.drop 24 = dktX7_would_1 := dk_seg dksX7_would_0 24 rfl rfl
theorem dksX7_would_2 : cX7_would.data.toList.drop 48 = dktX7_would_2 := dk_seg dksX7_would_1 24 rfl rfl
theorem dX7_would_0 : decode cX7_would 0 = .ok (.aload_n 0, 1) := dk_42 (dk_at dksX7_would_0 0 rfl rfl)
theorem dX7_would_1 : decode cX7_would 1 = .ok (.iload_n 1, 1) := dk_27 (dk_at dksX7_would_0 1 rfl rfl)
theorem dX7_would_2 : decode cX7_would 2 = .ok (.iconst 0, 1) := dk_3 (dk_at dksX7_would_0 2 rfl rfl)
theorem dX7_would_3 : decode cX7_would 3 = .ok (.sipush 1023, 3) := dk_17 3 255 (dk_at dksX7_would_0 3 rfl rfl)
theorem dX7_would_6 : decode cX7_would 6 = .ok (.invokestatic 55, 3) := dk_184 0 55 (dk_at dksX7_would_0 6 rfl rfl)
theorem dX7_would_9 : decode cX7_would 9 = .ok (.ifCond .eq 22, 3) := dk_153 0 22 (dk_at dksX7_would_0 9 rfl rfl)
theorem dX7_would_12 : decode cX7_would 12 = .ok (.iload_n 2, 1) := dk_28 (dk_at dksX7_would_0 12 rfl rfl)
theorem dX7_would_13 : decode cX7_would 13 = .ok (.iconst 0, 1) := dk_3 (dk_at dksX7_would_0 13 rfl rfl)
theorem dX7_would_14 : decode cX7_would 14 = .ok (.bipush 9, 2) := dk_16 9 (dk_at dksX7_would_0 14 rfl rfl)
theorem dX7_would_16 : decode cX7_would 16 = .ok (.invokestatic 55, 3) := dk_184 0 55 (dk_at dksX7_would_0 16 rfl rfl)
theorem dX7_would_19 : decode cX7_would 19 = .ok (.ifCond .eq 12, 3) := dk_153 0 12 (dk_at dksX7_would_0 19 rfl rfl)
theorem dX7_would_22 : decode cX7_would 22 = .ok (.iload_n 3, 1) := dk_29 (dk_at dksX7_would_0 22 rfl rfl)
theorem dX7_would_23 : decode cX7_would 23 = .ok (.iconst 0, 1) := dk_3 (dk_at dksX7_would_0 23 rfl rfl)
theorem dX7_would_24 : decode cX7_would 24 = .ok (.iconst 3, 1) := dk_6 (dk_at dksX7_would_1 0 rfl rfl)
theorem dX7_would_25 : decode cX7_would 25 = .ok (.invokestatic 55, 3) := dk_184 0 55 (dk_at dksX7_would_1 1 rfl rfl)
theorem dX7_would_28 : decode cX7_would 28 = .ok (.ifCond .ne 7, 3) := dk_154 0 7 (dk_at dksX7_would_1 4 rfl rfl)
theorem dX7_would_31 : decode cX7_would 31 = .ok (.iconst 1, 1) := dk_4 (dk_at dksX7_would_1 7 rfl rfl)
theorem dX7_would_32 : decode cX7_would 32 = .ok (.goto 4, 3) := dk_167 0 4 (dk_at dksX7_would_1 8 rfl rfl)
theorem dX7_would_35 : decode cX7_would 35 = .ok (.iconst 0, 1) := dk_3 (dk_at dksX7_would_1 11 rfl rfl)
theorem dX7_would_36 : decode cX7_would 36 = .ok (.iconst 1, 1) := dk_4 (dk_at dksX7_would_1 12 rfl rfl)
theorem dX7_would_37 : decode cX7_would 37 = .ok (.invokevirtual 105, 3) := dk_182 0 105 (dk_at dksX7_would_1 13 rfl rfl)
theorem dX7_would_40 : decode cX7_would 40 = .ok (.ifCond .eq 7, 3) := dk_153 0 7 (dk_at dksX7_would_1 16 rfl rfl)
theorem dX7_would_43 : decode cX7_would 43 = .ok (.iconst 0, 1) := dk_3 (dk_at dksX7_would_1 19 rfl rfl)
theorem dX7_would_44 : decode cX7_would 44 = .ok (.goto 10, 3) := dk_167 0 10 (dk_at dksX7_would_1 20 rfl rfl)
theorem dX7_would_47 : decode cX7_would 47 = .ok (.aload_n 0, 1) := dk_42 (dk_at dksX7_would_1 23 rfl rfl)
theorem dX7_would_48 : decode cX7_would 48 = .ok (.iload_n 1, 1) := dk_27 (dk_at dksX7_would_2 0 rfl rfl)
theorem dX7_would_49 : decode cX7_would 49 = .ok (.iload_n 2, 1) := dk_28 (dk_at dksX7_would_2 1 rfl rfl)
theorem dX7_would_50 : decode cX7_would 50 = .ok (.iload_n 3, 1) := dk_29 (dk_at dksX7_would_2 2 rfl rfl)
theorem dX7_would_51 : decode cX7_would 51 = .ok (.invokevirtual 309, 3) := dk_182 1 53 (dk_at dksX7_would_2 3 rfl rfl)
theorem dX7_would_54 : decode cX7_would 54 = .ok (.ireturn, 1) := dk_172 (dk_at dksX7_would_2 6 rfl rfl)
abbrev cX7_wouldTold : ByteArray := prog_15_method_52_code
def yX7_wouldTold : MethodName := ⟨RX7, "wouldTold", "(III)I"⟩
def dkwX7_wouldTold_3 : List UInt8 := [25, 5, 29, 46, 172]
abbrev dktX7_wouldTold_3 : List UInt8 := dkwX7_wouldTold_3 ++ []
def dkwX7_wouldTold_2 : List UInt8 := [79, 89, 5, 25, 4, 4, 3, 182, 1, 49, 79, 89, 6, 25, 4, 3, 3, 182, 1, 49, 79, 58, 5]
abbrev dktX7_wouldTold_2 : List UInt8 := dkwX7_wouldTold_2 ++ dktX7_wouldTold_3
def dkwX7_wouldTold_1 : List UInt8 := [28, 79, 182, 0, 78, 87, 7, 188, 10, 89, 3, 25, 4, 182, 0, 228, 79, 89, 4, 25, 4, 182, 0, 230]
abbrev dktX7_wouldTold_1 : List UInt8 := dkwX7_wouldTold_1 ++ dktX7_wouldTold_2
def dkwX7_wouldTold_0 : List UInt8 := [42, 180, 0, 12, 182, 0, 91, 58, 4, 25, 4, 6, 188, 10, 89, 3, 5, 79, 89, 4, 27, 79, 89, 5]
abbrev dktX7_wouldTold_0 : List UInt8 := dkwX7_wouldTold_0 ++ dktX7_wouldTold_1
theorem dksX7_wouldTold_0 : cX7_wouldTold.data.toList.drop 0 = dktX7_wouldTold_0 := by decide +kernel
theorem dksX7_wouldTold_1 : cX7_wouldTold.data.toList.drop 24 = dktX7_wouldTold_1 := dk_seg dksX7_wouldTold_0 24 rfl rfl
theorem dksX7_wouldTold_2 : cX7_wouldTold.data.toList.drop 48 = dktX7_wouldTold_2 := dk_seg dksX7_wouldTold_1 24 rfl rfl
theorem dksX7_wouldTold_3 : cX7_wouldTold.data.toList.drop 71 = dktX7_wouldTold_3 := dk_seg dksX7_wouldTold_2 23 rfl rfl
theorem dX7_wouldTold_0 : decode cX7_wouldTold 0 = .ok (.aload_n 0, 1) := dk_42 (dk_at dksX7_wouldTold_0 0 rfl rfl)
theorem dX7_wouldTold_1 : decode cX7_wouldTold 1 = .ok (.getfield 12, 3) := dk_180 0 12 (dk_at dksX7_wouldTold_0 1 rfl rfl)
theorem dX7_wouldTold_4 : decode cX7_wouldTold 4 = .ok (.invokevirtual 91, 3) := dk_182 0 91 (dk_at dksX7_wouldTold_0 4 rfl rfl)
theorem dX7_wouldTold_7 : decode cX7_wouldTold 7 = .ok (.astore 4, 2) := dk_58 4 (dk_at dksX7_wouldTold_0 7 rfl rfl)
theorem dX7_wouldTold_9 : decode cX7_wouldTold 9 = .ok (.aload 4, 2) := dk_25 4 (dk_at dksX7_wouldTold_0 9 rfl rfl)
theorem dX7_wouldTold_11 : decode cX7_wouldTold 11 = .ok (.iconst 3, 1) := dk_6 (dk_at dksX7_wouldTold_0 11 rfl rfl)
theorem dX7_wouldTold_12 : decode cX7_wouldTold 12 = .ok (.newarray .int, 2) := dk_188_10 (dk_at dksX7_wouldTold_0 12 rfl rfl)
theorem dX7_wouldTold_14 : decode cX7_wouldTold 14 = .ok (.dup, 1) := dk_89 (dk_at dksX7_wouldTold_0 14 rfl rfl)
theorem dX7_wouldTold_15 : decode cX7_wouldTold 15 = .ok (.iconst 0, 1) := dk_3 (dk_at dksX7_wouldTold_0 15 rfl rfl)
theorem dX7_wouldTold_16 : decode cX7_wouldTold 16 = .ok (.iconst 2, 1) := dk_5 (dk_at dksX7_wouldTold_0 16 rfl rfl)
theorem dX7_wouldTold_17 : decode cX7_wouldTold 17 = .ok (.iastore, 1) := dk_79 (dk_at dksX7_wouldTold_0 17 rfl rfl)
theorem dX7_wouldTold_18 : decode cX7_wouldTold 18 = .ok (.dup, 1) := dk_89 (dk_at dksX7_wouldTold_0 18 rfl rfl)
theorem dX7_wouldTold_19 : decode cX7_wouldTold 19 = .ok (.iconst 1, 1) := dk_4 (dk_at dksX7_wouldTold_0 19 rfl rfl)
theorem dX7_wouldTold_20 : decode cX7_wouldTold 20 = .ok (.iload_n 1, 1) := dk_27 (dk_at dksX7_wouldTold_0 20 rfl rfl)
theorem dX7_wouldTold_21 : decode cX7_wouldTold 21 = .ok (.iastore, 1) := dk_79 (dk_at dksX7_wouldTold_0 21 rfl rfl)
theorem dX7_wouldTold_22 : decode cX7_wouldTold 22 = .ok (.dup, 1) := dk_89 (dk_at dksX7_wouldTold_0 22 rfl rfl)
theorem dX7_wouldTold_23 : decode cX7_wouldTold 23 = .ok (.iconst 2, 1) := dk_5 (dk_at dksX7_wouldTold_0 23 rfl rfl)
theorem dX7_wouldTold_24 : decode cX7_wouldTold 24 = .ok (.iload_n 2, 1) := dk_28 (dk_at dksX7_wouldTold_1 0 rfl rfl)
theorem dX7_wouldTold_25 : decode cX7_wouldTold 25 = .ok (.iastore, 1) := dk_79 (dk_at dksX7_wouldTold_1 1 rfl rfl)
theorem dX7_wouldTold_26 : decode cX7_wouldTold 26 = .ok (.invokevirtual 78, 3) := dk_182 0 78 (dk_at dksX7_wouldTold_1 2 rfl rfl)
theorem dX7_wouldTold_29 : decode cX7_wouldTold 29 = .ok (.pop, 1) := dk_87 (dk_at dksX7_wouldTold_1 5 rfl rfl)
theorem dX7_wouldTold_30 : decode cX7_wouldTold 30 = .ok (.iconst 4, 1) := dk_7 (dk_at dksX7_wouldTold_1 6 rfl rfl)
theorem dX7_wouldTold_31 : decode cX7_wouldTold 31 = .ok (.newarray .int, 2) := dk_188_10 (dk_at dksX7_wouldTold_1 7 rfl rfl)
theorem dX7_wouldTold_33 : decode cX7_wouldTold 33 = .ok (.dup, 1) := dk_89 (dk_at dksX7_wouldTold_1 9 rfl rfl)
theorem dX7_wouldTold_34 : decode cX7_wouldTold 34 = .ok (.iconst 0, 1) := dk_3 (dk_at dksX7_wouldTold_1 10 rfl rfl)
theorem dX7_wouldTold_35 : decode cX7_wouldTold 35 = .ok (.aload 4, 2) := dk_25 4 (dk_at dksX7_wouldTold_1 11 rfl rfl)
theorem dX7_wouldTold_37 : decode cX7_wouldTold 37 = .ok (.invokevirtual 228, 3) := dk_182 0 228 (dk_at dksX7_wouldTold_1 13 rfl rfl)
theorem dX7_wouldTold_40 : decode cX7_wouldTold 40 = .ok (.iastore, 1) := dk_79 (dk_at dksX7_wouldTold_1 16 rfl rfl)
theorem dX7_wouldTold_41 : decode cX7_wouldTold 41 = .ok (.dup, 1) := dk_89 (dk_at dksX7_wouldTold_1 17 rfl rfl)
theorem dX7_wouldTold_42 : decode cX7_wouldTold 42 = .ok (.iconst 1, 1) := dk_4 (dk_at dksX7_wouldTold_1 18 rfl rfl)
theorem dX7_wouldTold_43 : decode cX7_wouldTold 43 = .ok (.aload 4, 2) := dk_25 4 (dk_at dksX7_wouldTold_1 19 rfl rfl)
theorem dX7_wouldTold_45 : decode cX7_wouldTold 45 = .ok (.invokevirtual 230, 3) := dk_182 0 230 (dk_at dksX7_wouldTold_1 21 rfl rfl)
theorem dX7_wouldTold_48 : decode cX7_wouldTold 48 = .ok (.iastore, 1) := dk_79 (dk_at dksX7_wouldTold_2 0 rfl rfl)
theorem dX7_wouldTold_49 : decode cX7_wouldTold 49 = .ok (.dup, 1) := dk_89 (dk_at dksX7_wouldTold_2 1 rfl rfl)
theorem dX7_wouldTold_50 : decode cX7_wouldTold 50 = .ok (.iconst 2, 1) := dk_5 (dk_at dksX7_wouldTold_2 2 rfl rfl)
theorem dX7_wouldTold_51 : decode cX7_wouldTold 51 = .ok (.aload 4, 2) := dk_25 4 (dk_at dksX7_wouldTold_2 3 rfl rfl)
theorem dX7_wouldTold_53 : decode cX7_wouldTold 53 = .ok (.iconst 1, 1) := dk_4 (dk_at dksX7_wouldTold_2 5 rfl rfl)
theorem dX7_wouldTold_54 : decode cX7_wouldTold 54 = .ok (.iconst 0, 1) := dk_3 (dk_at dksX7_wouldTold_2 6 rfl rfl)
theorem dX7_wouldTold_55 : decode cX7_wouldTold 55 = .ok (.invokevirtual 305, 3) := dk_182 1 49 (dk_at dksX7_wouldTold_2 7 rfl rfl)
theorem dX7_wouldTold_58 : decode cX7_wouldTold 58 = .ok (.iastore, 1) := dk_79 (dk_at dksX7_wouldTold_2 10 rfl rfl)
theorem dX7_wouldTold_59 : decode cX7_wouldTold 59 = .ok (.dup, 1) := dk_89 (dk_at dksX7_wouldTold_2 11 rfl rfl)
theorem dX7_wouldTold_60 : decode cX7_wouldTold 60 = .ok (.iconst 3, 1) := dk_6 (dk_at dksX7_wouldTold_2 12 rfl rfl)
theorem dX7_wouldTold_61 : decode cX7_wouldTold 61 = .ok (.aload 4, 2) := dk_25 4 (dk_at dksX7_wouldTold_2 13 rfl rfl)
theorem dX7_wouldTold_63 : decode cX7_wouldTold 63 = .ok (.iconst 0, 1) := dk_3 (dk_at dksX7_wouldTold_2 15 rfl rfl)
theorem dX7_wouldTold_64 : decode cX7_wouldTold 64 = .ok (.iconst 0, 1) := dk_3 (dk_at dksX7_wouldTold_2 16 rfl rfl)
theorem dX7_wouldTold_65 : decode cX7_wouldTold 65 = .ok (.invokevirtual 305, 3) := dk_182 1 49 (dk_at dksX7_wouldTold_2 17 rfl rfl)
theorem dX7_wouldTold_68 : decode cX7_wouldTold 68 = .ok (.iastore, 1) := dk_79 (dk_at dksX7_wouldTold_2 20 rfl rfl)
theorem dX7_wouldTold_69 : decode cX7_wouldTold 69 = .ok (.astore 5, 2) := dk_58 5 (dk_at dksX7_wouldTold_2 21 rfl rfl)
theorem dX7_wouldTold_71 : decode cX7_wouldTold 71 = .ok (.aload 5, 2) := dk_25 5 (dk_at dksX7_wouldTold_3 0 rfl rfl)
theorem dX7_wouldTold_73 : decode cX7_wouldTold 73 = .ok (.iload_n 3, 1) := dk_29 (dk_at dksX7_wouldTold_3 2 rfl rfl)
theorem dX7_wouldTold_74 : decode cX7_wouldTold 74 = .ok (.iaload, 1) := dk_46 (dk_at dksX7_wouldTold_3 3 rfl rfl)
theorem dX7_wouldTold_75 : decode cX7_wouldTold 75 = .ok (.ireturn, 1) := dk_172 (dk_at dksX7_wouldTold_3 4 rfl rfl)
abbrev cX7_crashed : ByteArray := prog_15_method_55_code
def yX7_crashed : MethodName := ⟨RX7, "crashed", "(I)I"⟩
def dkwX7_crashed_1 : List UInt8 := [3, 167, 0, 8, 42, 27, 182, 1, 56, 172]
abbrev dktX7_crashed_1 : List UInt8 := dkwX7_crashed_1 ++ []
def dkwX7_crashed_0 : List UInt8 := [42, 27, 2, 17, 39, 15, 184, 0, 55, 154, 0, 7, 4, 167, 0, 4, 3, 4, 182, 0, 105, 153, 0, 7]
abbrev dktX7_crashed_0 : List UInt8 := dkwX7_crashed_0 ++ dktX7_crashed_1
theorem dksX7_crashed_0 : cX7_crashed.data.toList.drop 0 = dktX7_crashed_0 := by decide +kernel
theorem dksX7_crashed_1 : cX7_crashed.data.toList.drop 24 = dktX7_crashed_1 := dk_seg dksX7_crashed_0 24 rfl rfl
theorem dX7_crashed_0 : decode cX7_crashed 0 = .ok (.aload_n 0, 1) := dk_42 (dk_at dksX7_crashed_0 0 rfl rfl)
theorem dX7_crashed_1 : decode cX7_crashed 1 = .ok (.iload_n 1, 1) := dk_27 (dk_at dksX7_crashed_0 1 rfl rfl)
theorem dX7_crashed_2 : decode cX7_crashed 2 = .ok (.iconst (-1), 1) := dk_2 (dk_at dksX7_crashed_0 2 rfl rfl)
theorem dX7_crashed_3 : decode cX7_crashed 3 = .ok (.sipush 9999, 3) := dk_17 39 15 (dk_at dksX7_crashed_0 3 rfl rfl)
theorem dX7_crashed_6 : decode cX7_crashed 6 = .ok (.invokestatic 55, 3) := dk_184 0 55 (dk_at dksX7_crashed_0 6 rfl rfl)
theorem dX7_crashed_9 : decode cX7_crashed 9 = .ok (.ifCond .ne 7, 3) := dk_154 0 7 (dk_at dksX7_crashed_0 9 rfl rfl)
theorem dX7_crashed_12 : decode cX7_crashed 12 = .ok (.iconst 1, 1) := dk_4 (dk_at dksX7_crashed_0 12 rfl rfl)
theorem dX7_crashed_13 : decode cX7_crashed 13 = .ok (.goto 4, 3) := dk_167 0 4 (dk_at dksX7_crashed_0 13 rfl rfl)
theorem dX7_crashed_16 : decode cX7_crashed 16 = .ok (.iconst 0, 1) := dk_3 (dk_at dksX7_crashed_0 16 rfl rfl)
theorem dX7_crashed_17 : decode cX7_crashed 17 = .ok (.iconst 1, 1) := dk_4 (dk_at dksX7_crashed_0 17 rfl rfl)
theorem dX7_crashed_18 : decode cX7_crashed 18 = .ok (.invokevirtual 105, 3) := dk_182 0 105 (dk_at dksX7_crashed_0 18 rfl rfl)
theorem dX7_crashed_21 : decode cX7_crashed 21 = .ok (.ifCond .eq 7, 3) := dk_153 0 7 (dk_at dksX7_crashed_0 21 rfl rfl)
theorem dX7_crashed_24 : decode cX7_crashed 24 = .ok (.iconst 0, 1) := dk_3 (dk_at dksX7_crashed_1 0 rfl rfl)
theorem dX7_crashed_25 : decode cX7_crashed 25 = .ok (.goto 8, 3) := dk_167 0 8 (dk_at dksX7_crashed_1 1 rfl rfl)
theorem dX7_crashed_28 : decode cX7_crashed 28 = .ok (.aload_n 0, 1) := dk_42 (dk_at dksX7_crashed_1 4 rfl rfl)
theorem dX7_crashed_29 : decode cX7_crashed 29 = .ok (.iload_n 1, 1) := dk_27 (dk_at dksX7_crashed_1 5 rfl rfl)
theorem dX7_crashed_30 : decode cX7_crashed 30 = .ok (.invokevirtual 312, 3) := dk_182 1 56 (dk_at dksX7_crashed_1 6 rfl rfl)
theorem dX7_crashed_33 : decode cX7_crashed 33 = .ok (.ireturn, 1) := dk_172 (dk_at dksX7_crashed_1 9 rfl rfl)
abbrev cX7_crashedTold : ByteArray := prog_15_method_54_code
def yX7_crashedTold : MethodName := ⟨RX7, "crashedTold", "(I)I"⟩
def dkwX7_crashedTold_1 : List UInt8 := [180, 0, 18, 27, 182, 0, 124, 172]
abbrev dktX7_crashedTold_1 : List UInt8 := dkwX7_crashedTold_1 ++ []
def dkwX7_crashedTold_0 : List UInt8 := [27, 2, 160, 0, 21, 42, 180, 0, 18, 182, 0, 108, 42, 180, 0, 12, 182, 0, 108, 100, 167, 0, 11, 42]
abbrev dktX7_crashedTold_0 : List UInt8 := dkwX7_crashedTold_0 ++ dktX7_crashedTold_1
theorem dksX7_crashedTold_0 : cX7_crashedTold.data.toList.drop 0 = dktX7_crashedTold_0 := by decide +kernel
theorem dksX7_crashedTold_1 : cX7_crashedTold.data.toList.drop 24 = dktX7_crashedTold_1 := dk_seg dksX7_crashedTold_0 24 rfl rfl
theorem dX7_crashedTold_0 : decode cX7_crashedTold 0 = .ok (.iload_n 1, 1) := dk_27 (dk_at dksX7_crashedTold_0 0 rfl rfl)
theorem dX7_crashedTold_1 : decode cX7_crashedTold 1 = .ok (.iconst (-1), 1) := dk_2 (dk_at dksX7_crashedTold_0 1 rfl rfl)
theorem dX7_crashedTold_2 : decode cX7_crashedTold 2 = .ok (.if_icmp .ne 21, 3) := dk_160 0 21 (dk_at dksX7_crashedTold_0 2 rfl rfl)
theorem dX7_crashedTold_5 : decode cX7_crashedTold 5 = .ok (.aload_n 0, 1) := dk_42 (dk_at dksX7_crashedTold_0 5 rfl rfl)
theorem dX7_crashedTold_6 : decode cX7_crashedTold 6 = .ok (.getfield 18, 3) := dk_180 0 18 (dk_at dksX7_crashedTold_0 6 rfl rfl)
theorem dX7_crashedTold_9 : decode cX7_crashedTold 9 = .ok (.invokevirtual 108, 3) := dk_182 0 108 (dk_at dksX7_crashedTold_0 9 rfl rfl)
theorem dX7_crashedTold_12 : decode cX7_crashedTold 12 = .ok (.aload_n 0, 1) := dk_42 (dk_at dksX7_crashedTold_0 12 rfl rfl)
theorem dX7_crashedTold_13 : decode cX7_crashedTold 13 = .ok (.getfield 12, 3) := dk_180 0 12 (dk_at dksX7_crashedTold_0 13 rfl rfl)
theorem dX7_crashedTold_16 : decode cX7_crashedTold 16 = .ok (.invokevirtual 108, 3) := dk_182 0 108 (dk_at dksX7_crashedTold_0 16 rfl rfl)
theorem dX7_crashedTold_19 : decode cX7_crashedTold 19 = .ok (.isub, 1) := dk_100 (dk_at dksX7_crashedTold_0 19 rfl rfl)
theorem dX7_crashedTold_20 : decode cX7_crashedTold 20 = .ok (.goto 11, 3) := dk_167 0 11 (dk_at dksX7_crashedTold_0 20 rfl rfl)
theorem dX7_crashedTold_23 : decode cX7_crashedTold 23 = .ok (.aload_n 0, 1) := dk_42 (dk_at dksX7_crashedTold_0 23 rfl rfl)
theorem dX7_crashedTold_24 : decode cX7_crashedTold 24 = .ok (.getfield 18, 3) := dk_180 0 18 (dk_at dksX7_crashedTold_1 0 rfl rfl)
theorem dX7_crashedTold_27 : decode cX7_crashedTold 27 = .ok (.iload_n 1, 1) := dk_27 (dk_at dksX7_crashedTold_1 3 rfl rfl)
theorem dX7_crashedTold_28 : decode cX7_crashedTold 28 = .ok (.invokevirtual 124, 3) := dk_182 0 124 (dk_at dksX7_crashedTold_1 4 rfl rfl)
theorem dX7_crashedTold_31 : decode cX7_crashedTold 31 = .ok (.ireturn, 1) := dk_172 (dk_at dksX7_crashedTold_1 7 rfl rfl)
abbrev cX7_isSound : ByteArray := prog_15_method_58_code
def yX7_isSound : MethodName := ⟨RX7, "isSound", "()Z"⟩
def dkwX7_isSound_0 : List UInt8 := [42, 3, 181, 0, 48, 42, 182, 1, 65, 172]
abbrev dktX7_isSound_0 : List UInt8 := dkwX7_isSound_0 ++ []
theorem dksX7_isSound_0 : cX7_isSound.data.toList.drop 0 = dktX7_isSound_0 := by decide +kernel
theorem dX7_isSound_0 : decode cX7_isSound 0 = .ok (.aload_n 0, 1) := dk_42 (dk_at dksX7_isSound_0 0 rfl rfl)
theorem dX7_isSound_1 : decode cX7_isSound 1 = .ok (.iconst 0, 1) := dk_3 (dk_at dksX7_isSound_0 1 rfl rfl)
theorem dX7_isSound_2 : decode cX7_isSound 2 = .ok (.putfield 48, 3) := dk_181 0 48 (dk_at dksX7_isSound_0 2 rfl rfl)
theorem dX7_isSound_5 : decode cX7_isSound 5 = .ok (.aload_n 0, 1) := dk_42 (dk_at dksX7_isSound_0 5 rfl rfl)
theorem dX7_isSound_6 : decode cX7_isSound 6 = .ok (.invokevirtual 321, 3) := dk_182 1 65 (dk_at dksX7_isSound_0 6 rfl rfl)
theorem dX7_isSound_9 : decode cX7_isSound 9 = .ok (.ireturn, 1) := dk_172 (dk_at dksX7_isSound_0 9 rfl rfl)
abbrev cX7_isWhole : ByteArray := prog_15_method_57_code
def yX7_isWhole : MethodName := ⟨RX7, "isWhole", "()Z"⟩
def dkwX7_isWhole_7 : List UInt8 := [4, 167, 0, 4, 3, 172]
abbrev dktX7_isWhole_7 : List UInt8 := dkwX7_isWhole_7 ++ []
def dkwX7_isWhole_6 : List UInt8 := [167, 255, 134, 42, 182, 1, 62, 153, 0, 21, 42, 180, 0, 28, 182, 0, 85, 42, 180, 0, 21, 162, 0, 7]
abbrev dktX7_isWhole_6 : List UInt8 := dkwX7_isWhole_6 ++ dktX7_isWhole_7
def dkwX7_isWhole_5 : List UInt8 := [184, 0, 55, 153, 0, 10, 43, 21, 5, 51, 153, 0, 5, 3, 172, 43, 21, 5, 4, 84, 167, 255, 206]
abbrev dktX7_isWhole_5 : List UInt8 := dkwX7_isWhole_5 ++ dktX7_isWhole_6
def dkwX7_isWhole_4 : List UInt8 := [153, 0, 46, 25, 4, 185, 0, 73, 1, 0, 192, 0, 40, 182, 0, 201, 54, 5, 21, 5, 3, 16, 95]
abbrev dktX7_isWhole_4 : List UInt8 := dkwX7_isWhole_4 ++ dktX7_isWhole_5
def dkwX7_isWhole_3 : List UInt8 := [184, 1, 59, 159, 0, 5, 3, 172, 45, 180, 0, 142, 182, 0, 63, 58, 4, 25, 4, 185, 0, 67, 1, 0]
abbrev dktX7_isWhole_3 : List UInt8 := dkwX7_isWhole_3 ++ dktX7_isWhole_4
def dkwX7_isWhole_2 : List UInt8 := [180, 0, 245, 182, 0, 85, 42, 180, 0, 12, 180, 0, 145, 96, 4, 100, 42, 180, 0, 12, 180, 0, 145, 108]
abbrev dktX7_isWhole_2 : List UInt8 := dkwX7_isWhole_2 ++ dktX7_isWhole_3
def dkwX7_isWhole_1 : List UInt8 := [153, 0, 119, 44, 185, 0, 73, 1, 0, 192, 0, 135, 78, 45, 180, 0, 142, 182, 0, 85, 4, 45]
abbrev dktX7_isWhole_1 : List UInt8 := dkwX7_isWhole_1 ++ dktX7_isWhole_2
def dkwX7_isWhole_0 : List UInt8 := [16, 96, 188, 4, 76, 42, 180, 0, 12, 180, 0, 242, 182, 0, 63, 77, 44, 185, 0, 67, 1, 0]
abbrev dktX7_isWhole_0 : List UInt8 := dkwX7_isWhole_0 ++ dktX7_isWhole_1
theorem dksX7_isWhole_0 : cX7_isWhole.data.toList.drop 0 = dktX7_isWhole_0 := by decide +kernel
theorem dksX7_isWhole_1 : cX7_isWhole.data.toList.drop 22 = dktX7_isWhole_1 := dk_seg dksX7_isWhole_0 22 rfl rfl
theorem dksX7_isWhole_2 : cX7_isWhole.data.toList.drop 44 = dktX7_isWhole_2 := dk_seg dksX7_isWhole_1 22 rfl rfl
theorem dksX7_isWhole_3 : cX7_isWhole.data.toList.drop 68 = dktX7_isWhole_3 := dk_seg dksX7_isWhole_2 24 rfl rfl
theorem dksX7_isWhole_4 : cX7_isWhole.data.toList.drop 92 = dktX7_isWhole_4 := dk_seg dksX7_isWhole_3 24 rfl rfl
theorem dksX7_isWhole_5 : cX7_isWhole.data.toList.drop 115 = dktX7_isWhole_5 := dk_seg dksX7_isWhole_4 23 rfl rfl
theorem dksX7_isWhole_6 : cX7_isWhole.data.toList.drop 138 = dktX7_isWhole_6 := dk_seg dksX7_isWhole_5 23 rfl rfl
theorem dksX7_isWhole_7 : cX7_isWhole.data.toList.drop 162 = dktX7_isWhole_7 := dk_seg dksX7_isWhole_6 24 rfl rfl
theorem dX7_isWhole_0 : decode cX7_isWhole 0 = .ok (.bipush 96, 2) := dk_16 96 (dk_at dksX7_isWhole_0 0 rfl rfl)
theorem dX7_isWhole_2 : decode cX7_isWhole 2 = .ok (.newarray .boolean, 2) := dk_188_4 (dk_at dksX7_isWhole_0 2 rfl rfl)
theorem dX7_isWhole_4 : decode cX7_isWhole 4 = .ok (.astore_n 1, 1) := dk_76 (dk_at dksX7_isWhole_0 4 rfl rfl)
theorem dX7_isWhole_5 : decode cX7_isWhole 5 = .ok (.aload_n 0, 1) := dk_42 (dk_at dksX7_isWhole_0 5 rfl rfl)
theorem dX7_isWhole_6 : decode cX7_isWhole 6 = .ok (.getfield 12, 3) := dk_180 0 12 (dk_at dksX7_isWhole_0 6 rfl rfl)
theorem dX7_isWhole_9 : decode cX7_isWhole 9 = .ok (.getfield 242, 3) := dk_180 0 242 (dk_at dksX7_isWhole_0 9 rfl rfl)
theorem dX7_isWhole_12 : decode cX7_isWhole 12 = .ok (.invokevirtual 63, 3) := dk_182 0 63 (dk_at dksX7_isWhole_0 12 rfl rfl)
theorem dX7_isWhole_15 : decode cX7_isWhole 15 = .ok (.astore_n 2, 1) := dk_77 (dk_at dksX7_isWhole_0 15 rfl rfl)
theorem dX7_isWhole_16 : decode cX7_isWhole 16 = .ok (.aload_n 2, 1) := dk_44 (dk_at dksX7_isWhole_0 16 rfl rfl)
theorem dX7_isWhole_17 : decode cX7_isWhole 17 = .ok (.invokeinterface 67 1, 5) := by decide +kernel
theorem dX7_isWhole_22 : decode cX7_isWhole 22 = .ok (.ifCond .eq 119, 3) := dk_153 0 119 (dk_at dksX7_isWhole_1 0 rfl rfl)
theorem dX7_isWhole_25 : decode cX7_isWhole 25 = .ok (.aload_n 2, 1) := dk_44 (dk_at dksX7_isWhole_1 3 rfl rfl)
theorem dX7_isWhole_26 : decode cX7_isWhole 26 = .ok (.invokeinterface 73 1, 5) := by decide +kernel
theorem dX7_isWhole_31 : decode cX7_isWhole 31 = .ok (.checkcast 135, 3) := dk_192 0 135 (dk_at dksX7_isWhole_1 9 rfl rfl)
theorem dX7_isWhole_34 : decode cX7_isWhole 34 = .ok (.astore_n 3, 1) := dk_78 (dk_at dksX7_isWhole_1 12 rfl rfl)
theorem dX7_isWhole_35 : decode cX7_isWhole 35 = .ok (.aload_n 3, 1) := dk_45 (dk_at dksX7_isWhole_1 13 rfl rfl)
theorem dX7_isWhole_36 : decode cX7_isWhole 36 = .ok (.getfield 142, 3) := dk_180 0 142 (dk_at dksX7_isWhole_1 14 rfl rfl)
theorem dX7_isWhole_39 : decode cX7_isWhole 39 = .ok (.invokevirtual 85, 3) := dk_182 0 85 (dk_at dksX7_isWhole_1 17 rfl rfl)
theorem dX7_isWhole_42 : decode cX7_isWhole 42 = .ok (.iconst 1, 1) := dk_4 (dk_at dksX7_isWhole_1 20 rfl rfl)
theorem dX7_isWhole_43 : decode cX7_isWhole 43 = .ok (.aload_n 3, 1) := dk_45 (dk_at dksX7_isWhole_1 21 rfl rfl)
theorem dX7_isWhole_44 : decode cX7_isWhole 44 = .ok (.getfield 245, 3) := dk_180 0 245 (dk_at dksX7_isWhole_2 0 rfl rfl)
theorem dX7_isWhole_47 : decode cX7_isWhole 47 = .ok (.invokevirtual 85, 3) := dk_182 0 85 (dk_at dksX7_isWhole_2 3 rfl rfl)
theorem dX7_isWhole_50 : decode cX7_isWhole 50 = .ok (.aload_n 0, 1) := dk_42 (dk_at dksX7_isWhole_2 6 rfl rfl)
theorem dX7_isWhole_51 : decode cX7_isWhole 51 = .ok (.getfield 12, 3) := dk_180 0 12 (dk_at dksX7_isWhole_2 7 rfl rfl)
theorem dX7_isWhole_54 : decode cX7_isWhole 54 = .ok (.getfield 145, 3) := dk_180 0 145 (dk_at dksX7_isWhole_2 10 rfl rfl)
theorem dX7_isWhole_57 : decode cX7_isWhole 57 = .ok (.iadd, 1) := dk_96 (dk_at dksX7_isWhole_2 13 rfl rfl)
theorem dX7_isWhole_58 : decode cX7_isWhole 58 = .ok (.iconst 1, 1) := dk_4 (dk_at dksX7_isWhole_2 14 rfl rfl)
theorem dX7_isWhole_59 : decode cX7_isWhole 59 = .ok (.isub, 1) := dk_100 (dk_at dksX7_isWhole_2 15 rfl rfl)
theorem dX7_isWhole_60 : decode cX7_isWhole 60 = .ok (.aload_n 0, 1) := dk_42 (dk_at dksX7_isWhole_2 16 rfl rfl)
theorem dX7_isWhole_61 : decode cX7_isWhole 61 = .ok (.getfield 12, 3) := dk_180 0 12 (dk_at dksX7_isWhole_2 17 rfl rfl)
theorem dX7_isWhole_64 : decode cX7_isWhole 64 = .ok (.getfield 145, 3) := dk_180 0 145 (dk_at dksX7_isWhole_2 20 rfl rfl)
theorem dX7_isWhole_67 : decode cX7_isWhole 67 = .ok (.idiv, 1) := dk_108 (dk_at dksX7_isWhole_2 23 rfl rfl)
theorem dX7_isWhole_68 : decode cX7_isWhole 68 = .ok (.invokestatic 315, 3) := dk_184 1 59 (dk_at dksX7_isWhole_3 0 rfl rfl)
theorem dX7_isWhole_71 : decode cX7_isWhole 71 = .ok (.if_icmp .eq 5, 3) := dk_159 0 5 (dk_at dksX7_isWhole_3 3 rfl rfl)
theorem dX7_isWhole_74 : decode cX7_isWhole 74 = .ok (.iconst 0, 1) := dk_3 (dk_at dksX7_isWhole_3 6 rfl rfl)
theorem dX7_isWhole_75 : decode cX7_isWhole 75 = .ok (.ireturn, 1) := dk_172 (dk_at dksX7_isWhole_3 7 rfl rfl)
theorem dX7_isWhole_76 : decode cX7_isWhole 76 = .ok (.aload_n 3, 1) := dk_45 (dk_at dksX7_isWhole_3 8 rfl rfl)
theorem dX7_isWhole_77 : decode cX7_isWhole 77 = .ok (.getfield 142, 3) := dk_180 0 142 (dk_at dksX7_isWhole_3 9 rfl rfl)
theorem dX7_isWhole_80 : decode cX7_isWhole 80 = .ok (.invokevirtual 63, 3) := dk_182 0 63 (dk_at dksX7_isWhole_3 12 rfl rfl)
theorem dX7_isWhole_83 : decode cX7_isWhole 83 = .ok (.astore 4, 2) := dk_58 4 (dk_at dksX7_isWhole_3 15 rfl rfl)
theorem dX7_isWhole_85 : decode cX7_isWhole 85 = .ok (.aload 4, 2) := dk_25 4 (dk_at dksX7_isWhole_3 17 rfl rfl)
theorem dX7_isWhole_87 : decode cX7_isWhole 87 = .ok (.invokeinterface 67 1, 5) := by decide +kernel
theorem dX7_isWhole_92 : decode cX7_isWhole 92 = .ok (.ifCond .eq 46, 3) := dk_153 0 46 (dk_at dksX7_isWhole_4 0 rfl rfl)
theorem dX7_isWhole_95 : decode cX7_isWhole 95 = .ok (.aload 4, 2) := dk_25 4 (dk_at dksX7_isWhole_4 3 rfl rfl)
theorem dX7_isWhole_97 : decode cX7_isWhole 97 = .ok (.invokeinterface 73 1, 5) := by decide +kernel
theorem dX7_isWhole_102 : decode cX7_isWhole 102 = .ok (.checkcast 40, 3) := dk_192 0 40 (dk_at dksX7_isWhole_4 10 rfl rfl)
theorem dX7_isWhole_105 : decode cX7_isWhole 105 = .ok (.invokevirtual 201, 3) := dk_182 0 201 (dk_at dksX7_isWhole_4 13 rfl rfl)
theorem dX7_isWhole_108 : decode cX7_isWhole 108 = .ok (.istore 5, 2) := dk_54 5 (dk_at dksX7_isWhole_4 16 rfl rfl)
theorem dX7_isWhole_110 : decode cX7_isWhole 110 = .ok (.iload 5, 2) := dk_21 5 (dk_at dksX7_isWhole_4 18 rfl rfl)
theorem dX7_isWhole_112 : decode cX7_isWhole 112 = .ok (.iconst 0, 1) := dk_3 (dk_at dksX7_isWhole_4 20 rfl rfl)
theorem dX7_isWhole_113 : decode cX7_isWhole 113 = .ok (.bipush 95, 2) := dk_16 95 (dk_at dksX7_isWhole_4 21 rfl rfl)
theorem dX7_isWhole_115 : decode cX7_isWhole 115 = .ok (.invokestatic 55, 3) := dk_184 0 55 (dk_at dksX7_isWhole_5 0 rfl rfl)
theorem dX7_isWhole_118 : decode cX7_isWhole 118 = .ok (.ifCond .eq 10, 3) := dk_153 0 10 (dk_at dksX7_isWhole_5 3 rfl rfl)
theorem dX7_isWhole_121 : decode cX7_isWhole 121 = .ok (.aload_n 1, 1) := dk_43 (dk_at dksX7_isWhole_5 6 rfl rfl)
theorem dX7_isWhole_122 : decode cX7_isWhole 122 = .ok (.iload 5, 2) := dk_21 5 (dk_at dksX7_isWhole_5 7 rfl rfl)
theorem dX7_isWhole_124 : decode cX7_isWhole 124 = .ok (.baload, 1) := dk_51 (dk_at dksX7_isWhole_5 9 rfl rfl)
theorem dX7_isWhole_125 : decode cX7_isWhole 125 = .ok (.ifCond .eq 5, 3) := dk_153 0 5 (dk_at dksX7_isWhole_5 10 rfl rfl)
theorem dX7_isWhole_128 : decode cX7_isWhole 128 = .ok (.iconst 0, 1) := dk_3 (dk_at dksX7_isWhole_5 13 rfl rfl)
theorem dX7_isWhole_129 : decode cX7_isWhole 129 = .ok (.ireturn, 1) := dk_172 (dk_at dksX7_isWhole_5 14 rfl rfl)
theorem dX7_isWhole_130 : decode cX7_isWhole 130 = .ok (.aload_n 1, 1) := dk_43 (dk_at dksX7_isWhole_5 15 rfl rfl)
theorem dX7_isWhole_131 : decode cX7_isWhole 131 = .ok (.iload 5, 2) := dk_21 5 (dk_at dksX7_isWhole_5 16 rfl rfl)
theorem dX7_isWhole_133 : decode cX7_isWhole 133 = .ok (.iconst 1, 1) := dk_4 (dk_at dksX7_isWhole_5 18 rfl rfl)
theorem dX7_isWhole_134 : decode cX7_isWhole 134 = .ok (.bastore, 1) := dk_84 (dk_at dksX7_isWhole_5 19 rfl rfl)
theorem dX7_isWhole_135 : decode cX7_isWhole 135 = .ok (.goto (-50), 3) := dk_167 255 206 (dk_at dksX7_isWhole_5 20 rfl rfl)
theorem dX7_isWhole_138 : decode cX7_isWhole 138 = .ok (.goto (-122), 3) := dk_167 255 134 (dk_at dksX7_isWhole_6 0 rfl rfl)
theorem dX7_isWhole_141 : decode cX7_isWhole 141 = .ok (.aload_n 0, 1) := dk_42 (dk_at dksX7_isWhole_6 3 rfl rfl)
theorem dX7_isWhole_142 : decode cX7_isWhole 142 = .ok (.invokevirtual 318, 3) := dk_182 1 62 (dk_at dksX7_isWhole_6 4 rfl rfl)
theorem dX7_isWhole_145 : decode cX7_isWhole 145 = .ok (.ifCond .eq 21, 3) := dk_153 0 21 (dk_at dksX7_isWhole_6 7 rfl rfl)
theorem dX7_isWhole_148 : decode cX7_isWhole 148 = .ok (.aload_n 0, 1) := dk_42 (dk_at dksX7_isWhole_6 10 rfl rfl)
theorem dX7_isWhole_149 : decode cX7_isWhole 149 = .ok (.getfield 28, 3) := dk_180 0 28 (dk_at dksX7_isWhole_6 11 rfl rfl)
theorem dX7_isWhole_152 : decode cX7_isWhole 152 = .ok (.invokevirtual 85, 3) := dk_182 0 85 (dk_at dksX7_isWhole_6 14 rfl rfl)
theorem dX7_isWhole_155 : decode cX7_isWhole 155 = .ok (.aload_n 0, 1) := dk_42 (dk_at dksX7_isWhole_6 17 rfl rfl)
theorem dX7_isWhole_156 : decode cX7_isWhole 156 = .ok (.getfield 21, 3) := dk_180 0 21 (dk_at dksX7_isWhole_6 18 rfl rfl)
theorem dX7_isWhole_159 : decode cX7_isWhole 159 = .ok (.if_icmp .ge 7, 3) := dk_162 0 7 (dk_at dksX7_isWhole_6 21 rfl rfl)
theorem dX7_isWhole_162 : decode cX7_isWhole 162 = .ok (.iconst 1, 1) := dk_4 (dk_at dksX7_isWhole_7 0 rfl rfl)
theorem dX7_isWhole_163 : decode cX7_isWhole 163 = .ok (.goto 4, 3) := dk_167 0 4 (dk_at dksX7_isWhole_7 1 rfl rfl)
theorem dX7_isWhole_166 : decode cX7_isWhole 166 = .ok (.iconst 0, 1) := dk_3 (dk_at dksX7_isWhole_7 4 rfl rfl)
theorem dX7_isWhole_167 : decode cX7_isWhole 167 = .ok (.ireturn, 1) := dk_172 (dk_at dksX7_isWhole_7 5 rfl rfl)
abbrev cX7_areRecords : ByteArray := prog_15_method_56_code
def yX7_areRecords : MethodName := ⟨RX7, "areRecords", "()Z"⟩
def dkwX7_areRecords_5 : List UInt8 := [167, 255, 151, 4, 172]
abbrev dktX7_areRecords_5 : List UInt8 := dkwX7_areRecords_5 ++ []
def dkwX7_areRecords_4 : List UInt8 := [182, 0, 198, 192, 0, 77, 3, 46, 160, 0, 5, 3, 172, 132, 3, 1, 167, 255, 223, 132, 2, 1]
abbrev dktX7_areRecords_4 : List UInt8 := dkwX7_areRecords_4 ++ dktX7_areRecords_5
def dkwX7_areRecords_3 : List UInt8 := [160, 0, 5, 3, 172, 3, 62, 29, 28, 162, 0, 34, 43, 29, 182, 0, 198, 192, 0, 77, 3, 46, 43, 28]
abbrev dktX7_areRecords_3 : List UInt8 := dkwX7_areRecords_3 ++ dktX7_areRecords_4
def dkwX7_areRecords_2 : List UInt8 := [192, 0, 77, 3, 46, 182, 0, 130, 43, 28, 182, 0, 198, 192, 0, 77, 3, 46, 182, 0, 134, 2]
abbrev dktX7_areRecords_2 : List UInt8 := dkwX7_areRecords_2 ++ dktX7_areRecords_3
def dkwX7_areRecords_1 : List UInt8 := [182, 0, 198, 192, 0, 77, 3, 46, 182, 0, 127, 153, 0, 37, 42, 180, 0, 12, 43, 28, 182, 0, 198]
abbrev dktX7_areRecords_1 : List UInt8 := dkwX7_areRecords_1 ++ dktX7_areRecords_2
def dkwX7_areRecords_0 : List UInt8 := [42, 180, 0, 12, 182, 0, 161, 76, 3, 61, 28, 43, 182, 0, 85, 162, 0, 103, 42, 180, 0, 12, 43, 28]
abbrev dktX7_areRecords_0 : List UInt8 := dkwX7_areRecords_0 ++ dktX7_areRecords_1
theorem dksX7_areRecords_0 : cX7_areRecords.data.toList.drop 0 = dktX7_areRecords_0 := by decide +kernel
theorem dksX7_areRecords_1 : cX7_areRecords.data.toList.drop 24 = dktX7_areRecords_1 := dk_seg dksX7_areRecords_0 24 rfl rfl
theorem dksX7_areRecords_2 : cX7_areRecords.data.toList.drop 47 = dktX7_areRecords_2 := dk_seg dksX7_areRecords_1 23 rfl rfl
theorem dksX7_areRecords_3 : cX7_areRecords.data.toList.drop 69 = dktX7_areRecords_3 := dk_seg dksX7_areRecords_2 22 rfl rfl
theorem dksX7_areRecords_4 : cX7_areRecords.data.toList.drop 93 = dktX7_areRecords_4 := dk_seg dksX7_areRecords_3 24 rfl rfl
theorem dksX7_areRecords_5 : cX7_areRecords.data.toList.drop 115 = dktX7_areRecords_5 := dk_seg dksX7_areRecords_4 22 rfl rfl
theorem dX7_areRecords_0 : decode cX7_areRecords 0 = .ok (.aload_n 0, 1) := dk_42 (dk_at dksX7_areRecords_0 0 rfl rfl)
theorem dX7_areRecords_1 : decode cX7_areRecords 1 = .ok (.getfield 12, 3) := dk_180 0 12 (dk_at dksX7_areRecords_0 1 rfl rfl)
theorem dX7_areRecords_4 : decode cX7_areRecords 4 = .ok (.invokevirtual 161, 3) := dk_182 0 161 (dk_at dksX7_areRecords_0 4 rfl rfl)
theorem dX7_areRecords_7 : decode cX7_areRecords 7 = .ok (.astore_n 1, 1) := dk_76 (dk_at dksX7_areRecords_0 7 rfl rfl)
theorem dX7_areRecords_8 : decode cX7_areRecords 8 = .ok (.iconst 0, 1) := dk_3 (dk_at dksX7_areRecords_0 8 rfl rfl)
theorem dX7_areRecords_9 : decode cX7_areRecords 9 = .ok (.istore_n 2, 1) := dk_61 (dk_at dksX7_areRecords_0 9 rfl rfl)
theorem dX7_areRecords_10 : decode cX7_areRecords 10 = .ok (.iload_n 2, 1) := dk_28 (dk_at dksX7_areRecords_0 10 rfl rfl)
theorem dX7_areRecords_11 : decode cX7_areRecords 11 = .ok (.aload_n 1, 1) := dk_43 (dk_at dksX7_areRecords_0 11 rfl rfl)
theorem dX7_areRecords_12 : decode cX7_areRecords 12 = .ok (.invokevirtual 85, 3) := dk_182 0 85 (dk_at dksX7_areRecords_0 12 rfl rfl)
theorem dX7_areRecords_15 : decode cX7_areRecords 15 = .ok (.if_icmp .ge 103, 3) := dk_162 0 103 (dk_at dksX7_areRecords_0 15 rfl rfl)
theorem dX7_areRecords_18 : decode cX7_areRecords 18 = .ok (.aload_n 0, 1) := dk_42 (dk_at dksX7_areRecords_0 18 rfl rfl)
theorem dX7_areRecords_19 : decode cX7_areRecords 19 = .ok (.getfield 12, 3) := dk_180 0 12 (dk_at dksX7_areRecords_0 19 rfl rfl)
theorem dX7_areRecords_22 : decode cX7_areRecords 22 = .ok (.aload_n 1, 1) := dk_43 (dk_at dksX7_areRecords_0 22 rfl rfl)
theorem dX7_areRecords_23 : decode cX7_areRecords 23 = .ok (.iload_n 2, 1) := dk_28 (dk_at dksX7_areRecords_0 23 rfl rfl)
theorem dX7_areRecords_24 : decode cX7_areRecords 24 = .ok (.invokevirtual 198, 3) := dk_182 0 198 (dk_at dksX7_areRecords_1 0 rfl rfl)
theorem dX7_areRecords_27 : decode cX7_areRecords 27 = .ok (.checkcast 77, 3) := dk_192 0 77 (dk_at dksX7_areRecords_1 3 rfl rfl)
theorem dX7_areRecords_30 : decode cX7_areRecords 30 = .ok (.iconst 0, 1) := dk_3 (dk_at dksX7_areRecords_1 6 rfl rfl)
theorem dX7_areRecords_31 : decode cX7_areRecords 31 = .ok (.iaload, 1) := dk_46 (dk_at dksX7_areRecords_1 7 rfl rfl)
theorem dX7_areRecords_32 : decode cX7_areRecords 32 = .ok (.invokevirtual 127, 3) := dk_182 0 127 (dk_at dksX7_areRecords_1 8 rfl rfl)
theorem dX7_areRecords_35 : decode cX7_areRecords 35 = .ok (.ifCond .eq 37, 3) := dk_153 0 37 (dk_at dksX7_areRecords_1 11 rfl rfl)
theorem dX7_areRecords_38 : decode cX7_areRecords 38 = .ok (.aload_n 0, 1) := dk_42 (dk_at dksX7_areRecords_1 14 rfl rfl)
theorem dX7_areRecords_39 : decode cX7_areRecords 39 = .ok (.getfield 12, 3) := dk_180 0 12 (dk_at dksX7_areRecords_1 15 rfl rfl)
theorem dX7_areRecords_42 : decode cX7_areRecords 42 = .ok (.aload_n 1, 1) := dk_43 (dk_at dksX7_areRecords_1 18 rfl rfl)
theorem dX7_areRecords_43 : decode cX7_areRecords 43 = .ok (.iload_n 2, 1) := dk_28 (dk_at dksX7_areRecords_1 19 rfl rfl)
theorem dX7_areRecords_44 : decode cX7_areRecords 44 = .ok (.invokevirtual 198, 3) := dk_182 0 198 (dk_at dksX7_areRecords_1 20 rfl rfl)
theorem dX7_areRecords_47 : decode cX7_areRecords 47 = .ok (.checkcast 77, 3) := dk_192 0 77 (dk_at dksX7_areRecords_2 0 rfl rfl)
theorem dX7_areRecords_50 : decode cX7_areRecords 50 = .ok (.iconst 0, 1) := dk_3 (dk_at dksX7_areRecords_2 3 rfl rfl)
theorem dX7_areRecords_51 : decode cX7_areRecords 51 = .ok (.iaload, 1) := dk_46 (dk_at dksX7_areRecords_2 4 rfl rfl)
theorem dX7_areRecords_52 : decode cX7_areRecords 52 = .ok (.invokevirtual 130, 3) := dk_182 0 130 (dk_at dksX7_areRecords_2 5 rfl rfl)
theorem dX7_areRecords_55 : decode cX7_areRecords 55 = .ok (.aload_n 1, 1) := dk_43 (dk_at dksX7_areRecords_2 8 rfl rfl)
theorem dX7_areRecords_56 : decode cX7_areRecords 56 = .ok (.iload_n 2, 1) := dk_28 (dk_at dksX7_areRecords_2 9 rfl rfl)
theorem dX7_areRecords_57 : decode cX7_areRecords 57 = .ok (.invokevirtual 198, 3) := dk_182 0 198 (dk_at dksX7_areRecords_2 10 rfl rfl)
theorem dX7_areRecords_60 : decode cX7_areRecords 60 = .ok (.checkcast 77, 3) := dk_192 0 77 (dk_at dksX7_areRecords_2 13 rfl rfl)
theorem dX7_areRecords_63 : decode cX7_areRecords 63 = .ok (.iconst 0, 1) := dk_3 (dk_at dksX7_areRecords_2 16 rfl rfl)
theorem dX7_areRecords_64 : decode cX7_areRecords 64 = .ok (.iaload, 1) := dk_46 (dk_at dksX7_areRecords_2 17 rfl rfl)
theorem dX7_areRecords_65 : decode cX7_areRecords 65 = .ok (.invokevirtual 134, 3) := dk_182 0 134 (dk_at dksX7_areRecords_2 18 rfl rfl)
theorem dX7_areRecords_68 : decode cX7_areRecords 68 = .ok (.iconst (-1), 1) := dk_2 (dk_at dksX7_areRecords_2 21 rfl rfl)
theorem dX7_areRecords_69 : decode cX7_areRecords 69 = .ok (.if_icmp .ne 5, 3) := dk_160 0 5 (dk_at dksX7_areRecords_3 0 rfl rfl)
theorem dX7_areRecords_72 : decode cX7_areRecords 72 = .ok (.iconst 0, 1) := dk_3 (dk_at dksX7_areRecords_3 3 rfl rfl)
theorem dX7_areRecords_73 : decode cX7_areRecords 73 = .ok (.ireturn, 1) := dk_172 (dk_at dksX7_areRecords_3 4 rfl rfl)
theorem dX7_areRecords_74 : decode cX7_areRecords 74 = .ok (.iconst 0, 1) := dk_3 (dk_at dksX7_areRecords_3 5 rfl rfl)
theorem dX7_areRecords_75 : decode cX7_areRecords 75 = .ok (.istore_n 3, 1) := dk_62 (dk_at dksX7_areRecords_3 6 rfl rfl)
theorem dX7_areRecords_76 : decode cX7_areRecords 76 = .ok (.iload_n 3, 1) := dk_29 (dk_at dksX7_areRecords_3 7 rfl rfl)
theorem dX7_areRecords_77 : decode cX7_areRecords 77 = .ok (.iload_n 2, 1) := dk_28 (dk_at dksX7_areRecords_3 8 rfl rfl)
theorem dX7_areRecords_78 : decode cX7_areRecords 78 = .ok (.if_icmp .ge 34, 3) := dk_162 0 34 (dk_at dksX7_areRecords_3 9 rfl rfl)
theorem dX7_areRecords_81 : decode cX7_areRecords 81 = .ok (.aload_n 1, 1) := dk_43 (dk_at dksX7_areRecords_3 12 rfl rfl)
theorem dX7_areRecords_82 : decode cX7_areRecords 82 = .ok (.iload_n 3, 1) := dk_29 (dk_at dksX7_areRecords_3 13 rfl rfl)
theorem dX7_areRecords_83 : decode cX7_areRecords 83 = .ok (.invokevirtual 198, 3) := dk_182 0 198 (dk_at dksX7_areRecords_3 14 rfl rfl)
theorem dX7_areRecords_86 : decode cX7_areRecords 86 = .ok (.checkcast 77, 3) := dk_192 0 77 (dk_at dksX7_areRecords_3 17 rfl rfl)
theorem dX7_areRecords_89 : decode cX7_areRecords 89 = .ok (.iconst 0, 1) := dk_3 (dk_at dksX7_areRecords_3 20 rfl rfl)
theorem dX7_areRecords_90 : decode cX7_areRecords 90 = .ok (.iaload, 1) := dk_46 (dk_at dksX7_areRecords_3 21 rfl rfl)
theorem dX7_areRecords_91 : decode cX7_areRecords 91 = .ok (.aload_n 1, 1) := dk_43 (dk_at dksX7_areRecords_3 22 rfl rfl)
theorem dX7_areRecords_92 : decode cX7_areRecords 92 = .ok (.iload_n 2, 1) := dk_28 (dk_at dksX7_areRecords_3 23 rfl rfl)
theorem dX7_areRecords_93 : decode cX7_areRecords 93 = .ok (.invokevirtual 198, 3) := dk_182 0 198 (dk_at dksX7_areRecords_4 0 rfl rfl)
theorem dX7_areRecords_96 : decode cX7_areRecords 96 = .ok (.checkcast 77, 3) := dk_192 0 77 (dk_at dksX7_areRecords_4 3 rfl rfl)
theorem dX7_areRecords_99 : decode cX7_areRecords 99 = .ok (.iconst 0, 1) := dk_3 (dk_at dksX7_areRecords_4 6 rfl rfl)
theorem dX7_areRecords_100 : decode cX7_areRecords 100 = .ok (.iaload, 1) := dk_46 (dk_at dksX7_areRecords_4 7 rfl rfl)
theorem dX7_areRecords_101 : decode cX7_areRecords 101 = .ok (.if_icmp .ne 5, 3) := dk_160 0 5 (dk_at dksX7_areRecords_4 8 rfl rfl)
theorem dX7_areRecords_104 : decode cX7_areRecords 104 = .ok (.iconst 0, 1) := dk_3 (dk_at dksX7_areRecords_4 11 rfl rfl)
theorem dX7_areRecords_105 : decode cX7_areRecords 105 = .ok (.ireturn, 1) := dk_172 (dk_at dksX7_areRecords_4 12 rfl rfl)
theorem dX7_areRecords_106 : decode cX7_areRecords 106 = .ok (.iinc 3 1, 3) := dk_132 3 1 (dk_at dksX7_areRecords_4 13 rfl rfl)
theorem dX7_areRecords_109 : decode cX7_areRecords 109 = .ok (.goto (-33), 3) := dk_167 255 223 (dk_at dksX7_areRecords_4 16 rfl rfl)
theorem dX7_areRecords_112 : decode cX7_areRecords 112 = .ok (.iinc 2 1, 3) := dk_132 2 1 (dk_at dksX7_areRecords_4 19 rfl rfl)
theorem dX7_areRecords_115 : decode cX7_areRecords 115 = .ok (.goto (-105), 3) := dk_167 255 151 (dk_at dksX7_areRecords_5 0 rfl rfl)
theorem dX7_areRecords_118 : decode cX7_areRecords 118 = .ok (.iconst 1, 1) := dk_4 (dk_at dksX7_areRecords_5 3 rfl rfl)
theorem dX7_areRecords_119 : decode cX7_areRecords 119 = .ok (.ireturn, 1) := dk_172 (dk_at dksX7_areRecords_5 4 rfl rfl)
abbrev cX7_digest : ByteArray := prog_15_method_60_code
def yX7_digest : MethodName := ⟨RX7, "digest", "()J"⟩
def dkwX7_digest_11 : List UInt8 := [182, 1, 56, 133, 184, 1, 72, 64, 31, 42, 182, 1, 65, 184, 0, 151, 133, 184, 1, 72, 173]
abbrev dktX7_digest_11 : List UInt8 := dkwX7_digest_11 ++ []
def dkwX7_digest_10 : List UInt8 := [182, 1, 49, 133, 184, 1, 72, 42, 180, 0, 12, 3, 3, 182, 1, 49, 133, 184, 1, 72, 64, 31, 42, 2]
abbrev dktX7_digest_10 : List UInt8 := dkwX7_digest_10 ++ dktX7_digest_11
def dkwX7_digest_9 : List UInt8 := [184, 1, 72, 64, 132, 4, 1, 167, 255, 234, 132, 3, 1, 167, 255, 220, 31, 42, 180, 0, 12, 4, 3]
abbrev dktX7_digest_9 : List UInt8 := dkwX7_digest_9 ++ dktX7_digest_10
def dkwX7_digest_8 : List UInt8 := [62, 29, 6, 162, 0, 37, 3, 54, 4, 21, 4, 6, 162, 0, 22, 31, 42, 29, 21, 4, 182, 1, 38, 133]
abbrev dktX7_digest_8 : List UInt8 := dkwX7_digest_8 ++ dktX7_digest_9
def dkwX7_digest_7 : List UInt8 := [162, 0, 23, 45, 21, 5, 46, 54, 6, 31, 21, 6, 133, 184, 1, 72, 64, 132, 5, 1, 167, 255, 232, 3]
abbrev dktX7_digest_7 : List UInt8 := dkwX7_digest_7 ++ dktX7_digest_8
def dkwX7_digest_6 : List UInt8 := [184, 1, 72, 64, 167, 255, 218, 42, 180, 0, 32, 78, 45, 190, 54, 4, 3, 54, 5, 21, 5, 21, 4]
abbrev dktX7_digest_6 : List UInt8 := dkwX7_digest_6 ++ dktX7_digest_7
def dkwX7_digest_5 : List UInt8 := [185, 0, 73, 1, 0, 192, 0, 77, 58, 4, 31, 25, 4, 3, 46, 133, 184, 1, 72, 25, 4, 4, 46, 133]
abbrev dktX7_digest_5 : List UInt8 := dkwX7_digest_5 ++ dktX7_digest_6
def dkwX7_digest_4 : List UInt8 := [167, 255, 199, 42, 180, 0, 12, 182, 0, 161, 182, 0, 63, 78, 45, 185, 0, 67, 1, 0, 153, 0, 35, 45]
abbrev dktX7_digest_4 : List UInt8 := dkwX7_digest_4 ++ dktX7_digest_5
def dkwX7_digest_3 : List UInt8 := [132, 4, 1, 167, 255, 233, 31, 42, 29, 182, 1, 23, 182, 1, 75, 133, 184, 1, 72, 64, 132, 3, 1]
abbrev dktX7_digest_3 : List UInt8 := dkwX7_digest_3 ++ dktX7_digest_4
def dkwX7_digest_2 : List UInt8 := [54, 4, 21, 4, 16, 6, 162, 0, 22, 31, 42, 29, 21, 4, 182, 0, 254, 133, 184, 1, 72, 64]
abbrev dktX7_digest_2 : List UInt8 := dkwX7_digest_2 ++ dktX7_digest_3
def dkwX7_digest_1 : List UInt8 := [184, 1, 72, 64, 132, 3, 1, 167, 255, 236, 3, 62, 29, 42, 180, 0, 12, 182, 0, 59, 162, 0, 52, 3]
abbrev dktX7_digest_1 : List UInt8 := dkwX7_digest_1 ++ dktX7_digest_2
def dkwX7_digest_0 : List UInt8 := [42, 3, 181, 0, 48, 20, 1, 70, 64, 3, 62, 29, 16, 22, 162, 0, 20, 31, 42, 29, 182, 0, 239, 133]
abbrev dktX7_digest_0 : List UInt8 := dkwX7_digest_0 ++ dktX7_digest_1
theorem dksX7_digest_0 : cX7_digest.data.toList.drop 0 = dktX7_digest_0 := by decide +kernel
theorem dksX7_digest_1 : cX7_digest.data.toList.drop 24 = dktX7_digest_1 := dk_seg dksX7_digest_0 24 rfl rfl
theorem dksX7_digest_2 : cX7_digest.data.toList.drop 48 = dktX7_digest_2 := dk_seg dksX7_digest_1 24 rfl rfl
theorem dksX7_digest_3 : cX7_digest.data.toList.drop 70 = dktX7_digest_3 := dk_seg dksX7_digest_2 22 rfl rfl
theorem dksX7_digest_4 : cX7_digest.data.toList.drop 93 = dktX7_digest_4 := dk_seg dksX7_digest_3 23 rfl rfl
theorem dksX7_digest_5 : cX7_digest.data.toList.drop 117 = dktX7_digest_5 := dk_seg dksX7_digest_4 24 rfl rfl
theorem dksX7_digest_6 : cX7_digest.data.toList.drop 141 = dktX7_digest_6 := dk_seg dksX7_digest_5 24 rfl rfl
theorem dksX7_digest_7 : cX7_digest.data.toList.drop 164 = dktX7_digest_7 := dk_seg dksX7_digest_6 23 rfl rfl
theorem dksX7_digest_8 : cX7_digest.data.toList.drop 188 = dktX7_digest_8 := dk_seg dksX7_digest_7 24 rfl rfl
theorem dksX7_digest_9 : cX7_digest.data.toList.drop 212 = dktX7_digest_9 := dk_seg dksX7_digest_8 24 rfl rfl
theorem dksX7_digest_10 : cX7_digest.data.toList.drop 235 = dktX7_digest_10 := dk_seg dksX7_digest_9 23 rfl rfl
theorem dksX7_digest_11 : cX7_digest.data.toList.drop 259 = dktX7_digest_11 := dk_seg dksX7_digest_10 24 rfl rfl
theorem dX7_digest_0 : decode cX7_digest 0 = .ok (.aload_n 0, 1) := dk_42 (dk_at dksX7_digest_0 0 rfl rfl)
theorem dX7_digest_1 : decode cX7_digest 1 = .ok (.iconst 0, 1) := dk_3 (dk_at dksX7_digest_0 1 rfl rfl)
theorem dX7_digest_2 : decode cX7_digest 2 = .ok (.putfield 48, 3) := dk_181 0 48 (dk_at dksX7_digest_0 2 rfl rfl)
theorem dX7_digest_5 : decode cX7_digest 5 = .ok (.ldc2_w 326, 3) := dk_20 1 70 (dk_at dksX7_digest_0 5 rfl rfl)
theorem dX7_digest_8 : decode cX7_digest 8 = .ok (.lstore_n 1, 1) := dk_64 (dk_at dksX7_digest_0 8 rfl rfl)
theorem dX7_digest_9 : decode cX7_digest 9 = .ok (.iconst 0, 1) := dk_3 (dk_at dksX7_digest_0 9 rfl rfl)
theorem dX7_digest_10 : decode cX7_digest 10 = .ok (.istore_n 3, 1) := dk_62 (dk_at dksX7_digest_0 10 rfl rfl)
theorem dX7_digest_11 : decode cX7_digest 11 = .ok (.iload_n 3, 1) := dk_29 (dk_at dksX7_digest_0 11 rfl rfl)
theorem dX7_digest_12 : decode cX7_digest 12 = .ok (.bipush 22, 2) := dk_16 22 (dk_at dksX7_digest_0 12 rfl rfl)
theorem dX7_digest_14 : decode cX7_digest 14 = .ok (.if_icmp .ge 20, 3) := dk_162 0 20 (dk_at dksX7_digest_0 14 rfl rfl)
theorem dX7_digest_17 : decode cX7_digest 17 = .ok (.lload_n 1, 1) := dk_31 (dk_at dksX7_digest_0 17 rfl rfl)
theorem dX7_digest_18 : decode cX7_digest 18 = .ok (.aload_n 0, 1) := dk_42 (dk_at dksX7_digest_0 18 rfl rfl)
theorem dX7_digest_19 : decode cX7_digest 19 = .ok (.iload_n 3, 1) := dk_29 (dk_at dksX7_digest_0 19 rfl rfl)
theorem dX7_digest_20 : decode cX7_digest 20 = .ok (.invokevirtual 239, 3) := dk_182 0 239 (dk_at dksX7_digest_0 20 rfl rfl)
theorem dX7_digest_23 : decode cX7_digest 23 = .ok (.i2l, 1) := dk_133 (dk_at dksX7_digest_0 23 rfl rfl)
theorem dX7_digest_24 : decode cX7_digest 24 = .ok (.invokestatic 328, 3) := dk_184 1 72 (dk_at dksX7_digest_1 0 rfl rfl)
theorem dX7_digest_27 : decode cX7_digest 27 = .ok (.lstore_n 1, 1) := dk_64 (dk_at dksX7_digest_1 3 rfl rfl)
theorem dX7_digest_28 : decode cX7_digest 28 = .ok (.iinc 3 1, 3) := dk_132 3 1 (dk_at dksX7_digest_1 4 rfl rfl)
theorem dX7_digest_31 : decode cX7_digest 31 = .ok (.goto (-20), 3) := dk_167 255 236 (dk_at dksX7_digest_1 7 rfl rfl)
theorem dX7_digest_34 : decode cX7_digest 34 = .ok (.iconst 0, 1) := dk_3 (dk_at dksX7_digest_1 10 rfl rfl)
theorem dX7_digest_35 : decode cX7_digest 35 = .ok (.istore_n 3, 1) := dk_62 (dk_at dksX7_digest_1 11 rfl rfl)
theorem dX7_digest_36 : decode cX7_digest 36 = .ok (.iload_n 3, 1) := dk_29 (dk_at dksX7_digest_1 12 rfl rfl)
theorem dX7_digest_37 : decode cX7_digest 37 = .ok (.aload_n 0, 1) := dk_42 (dk_at dksX7_digest_1 13 rfl rfl)
theorem dX7_digest_38 : decode cX7_digest 38 = .ok (.getfield 12, 3) := dk_180 0 12 (dk_at dksX7_digest_1 14 rfl rfl)
theorem dX7_digest_41 : decode cX7_digest 41 = .ok (.invokevirtual 59, 3) := dk_182 0 59 (dk_at dksX7_digest_1 17 rfl rfl)
theorem dX7_digest_44 : decode cX7_digest 44 = .ok (.if_icmp .ge 52, 3) := dk_162 0 52 (dk_at dksX7_digest_1 20 rfl rfl)
theorem dX7_digest_47 : decode cX7_digest 47 = .ok (.iconst 0, 1) := dk_3 (dk_at dksX7_digest_1 23 rfl rfl)
theorem dX7_digest_48 : decode cX7_digest 48 = .ok (.istore 4, 2) := dk_54 4 (dk_at dksX7_digest_2 0 rfl rfl)
theorem dX7_digest_50 : decode cX7_digest 50 = .ok (.iload 4, 2) := dk_21 4 (dk_at dksX7_digest_2 2 rfl rfl)
theorem dX7_digest_52 : decode cX7_digest 52 = .ok (.bipush 6, 2) := dk_16 6 (dk_at dksX7_digest_2 4 rfl rfl)
theorem dX7_digest_54 : decode cX7_digest 54 = .ok (.if_icmp .ge 22, 3) := dk_162 0 22 (dk_at dksX7_digest_2 6 rfl rfl)
theorem dX7_digest_57 : decode cX7_digest 57 = .ok (.lload_n 1, 1) := dk_31 (dk_at dksX7_digest_2 9 rfl rfl)
theorem dX7_digest_58 : decode cX7_digest 58 = .ok (.aload_n 0, 1) := dk_42 (dk_at dksX7_digest_2 10 rfl rfl)
theorem dX7_digest_59 : decode cX7_digest 59 = .ok (.iload_n 3, 1) := dk_29 (dk_at dksX7_digest_2 11 rfl rfl)
theorem dX7_digest_60 : decode cX7_digest 60 = .ok (.iload 4, 2) := dk_21 4 (dk_at dksX7_digest_2 12 rfl rfl)
theorem dX7_digest_62 : decode cX7_digest 62 = .ok (.invokevirtual 254, 3) := dk_182 0 254 (dk_at dksX7_digest_2 14 rfl rfl)
theorem dX7_digest_65 : decode cX7_digest 65 = .ok (.i2l, 1) := dk_133 (dk_at dksX7_digest_2 17 rfl rfl)
theorem dX7_digest_66 : decode cX7_digest 66 = .ok (.invokestatic 328, 3) := dk_184 1 72 (dk_at dksX7_digest_2 18 rfl rfl)
theorem dX7_digest_69 : decode cX7_digest 69 = .ok (.lstore_n 1, 1) := dk_64 (dk_at dksX7_digest_2 21 rfl rfl)
theorem dX7_digest_70 : decode cX7_digest 70 = .ok (.iinc 4 1, 3) := dk_132 4 1 (dk_at dksX7_digest_3 0 rfl rfl)
theorem dX7_digest_73 : decode cX7_digest 73 = .ok (.goto (-23), 3) := dk_167 255 233 (dk_at dksX7_digest_3 3 rfl rfl)
theorem dX7_digest_76 : decode cX7_digest 76 = .ok (.lload_n 1, 1) := dk_31 (dk_at dksX7_digest_3 6 rfl rfl)
theorem dX7_digest_77 : decode cX7_digest 77 = .ok (.aload_n 0, 1) := dk_42 (dk_at dksX7_digest_3 7 rfl rfl)
theorem dX7_digest_78 : decode cX7_digest 78 = .ok (.iload_n 3, 1) := dk_29 (dk_at dksX7_digest_3 8 rfl rfl)
theorem dX7_digest_79 : decode cX7_digest 79 = .ok (.invokevirtual 279, 3) := dk_182 1 23 (dk_at dksX7_digest_3 9 rfl rfl)
theorem dX7_digest_82 : decode cX7_digest 82 = .ok (.invokevirtual 331, 3) := dk_182 1 75 (dk_at dksX7_digest_3 12 rfl rfl)
theorem dX7_digest_85 : decode cX7_digest 85 = .ok (.i2l, 1) := dk_133 (dk_at dksX7_digest_3 15 rfl rfl)
theorem dX7_digest_86 : decode cX7_digest 86 = .ok (.invokestatic 328, 3) := dk_184 1 72 (dk_at dksX7_digest_3 16 rfl rfl)
theorem dX7_digest_89 : decode cX7_digest 89 = .ok (.lstore_n 1, 1) := dk_64 (dk_at dksX7_digest_3 19 rfl rfl)
theorem dX7_digest_90 : decode cX7_digest 90 = .ok (.iinc 3 1, 3) := dk_132 3 1 (dk_at dksX7_digest_3 20 rfl rfl)
theorem dX7_digest_93 : decode cX7_digest 93 = .ok (.goto (-57), 3) := dk_167 255 199 (dk_at dksX7_digest_4 0 rfl rfl)
theorem dX7_digest_96 : decode cX7_digest 96 = .ok (.aload_n 0, 1) := dk_42 (dk_at dksX7_digest_4 3 rfl rfl)
theorem dX7_digest_97 : decode cX7_digest 97 = .ok (.getfield 12, 3) := dk_180 0 12 (dk_at dksX7_digest_4 4 rfl rfl)
theorem dX7_digest_100 : decode cX7_digest 100 = .ok (.invokevirtual 161, 3) := dk_182 0 161 (dk_at dksX7_digest_4 7 rfl rfl)
theorem dX7_digest_103 : decode cX7_digest 103 = .ok (.invokevirtual 63, 3) := dk_182 0 63 (dk_at dksX7_digest_4 10 rfl rfl)
theorem dX7_digest_106 : decode cX7_digest 106 = .ok (.astore_n 3, 1) := dk_78 (dk_at dksX7_digest_4 13 rfl rfl)
theorem dX7_digest_107 : decode cX7_digest 107 = .ok (.aload_n 3, 1) := dk_45 (dk_at dksX7_digest_4 14 rfl rfl)
theorem dX7_digest_108 : decode cX7_digest 108 = .ok (.invokeinterface 67 1, 5) := by decide +kernel
theorem dX7_digest_113 : decode cX7_digest 113 = .ok (.ifCond .eq 35, 3) := dk_153 0 35 (dk_at dksX7_digest_4 20 rfl rfl)
theorem dX7_digest_116 : decode cX7_digest 116 = .ok (.aload_n 3, 1) := dk_45 (dk_at dksX7_digest_4 23 rfl rfl)
theorem dX7_digest_117 : decode cX7_digest 117 = .ok (.invokeinterface 73 1, 5) := by decide +kernel
theorem dX7_digest_122 : decode cX7_digest 122 = .ok (.checkcast 77, 3) := dk_192 0 77 (dk_at dksX7_digest_5 5 rfl rfl)
theorem dX7_digest_125 : decode cX7_digest 125 = .ok (.astore 4, 2) := dk_58 4 (dk_at dksX7_digest_5 8 rfl rfl)
theorem dX7_digest_127 : decode cX7_digest 127 = .ok (.lload_n 1, 1) := dk_31 (dk_at dksX7_digest_5 10 rfl rfl)
theorem dX7_digest_128 : decode cX7_digest 128 = .ok (.aload 4, 2) := dk_25 4 (dk_at dksX7_digest_5 11 rfl rfl)
theorem dX7_digest_130 : decode cX7_digest 130 = .ok (.iconst 0, 1) := dk_3 (dk_at dksX7_digest_5 13 rfl rfl)
theorem dX7_digest_131 : decode cX7_digest 131 = .ok (.iaload, 1) := dk_46 (dk_at dksX7_digest_5 14 rfl rfl)
theorem dX7_digest_132 : decode cX7_digest 132 = .ok (.i2l, 1) := dk_133 (dk_at dksX7_digest_5 15 rfl rfl)
theorem dX7_digest_133 : decode cX7_digest 133 = .ok (.invokestatic 328, 3) := dk_184 1 72 (dk_at dksX7_digest_5 16 rfl rfl)
theorem dX7_digest_136 : decode cX7_digest 136 = .ok (.aload 4, 2) := dk_25 4 (dk_at dksX7_digest_5 19 rfl rfl)
theorem dX7_digest_138 : decode cX7_digest 138 = .ok (.iconst 1, 1) := dk_4 (dk_at dksX7_digest_5 21 rfl rfl)
theorem dX7_digest_139 : decode cX7_digest 139 = .ok (.iaload, 1) := dk_46 (dk_at dksX7_digest_5 22 rfl rfl)
theorem dX7_digest_140 : decode cX7_digest 140 = .ok (.i2l, 1) := dk_133 (dk_at dksX7_digest_5 23 rfl rfl)
theorem dX7_digest_141 : decode cX7_digest 141 = .ok (.invokestatic 328, 3) := dk_184 1 72 (dk_at dksX7_digest_6 0 rfl rfl)
theorem dX7_digest_144 : decode cX7_digest 144 = .ok (.lstore_n 1, 1) := dk_64 (dk_at dksX7_digest_6 3 rfl rfl)
theorem dX7_digest_145 : decode cX7_digest 145 = .ok (.goto (-38), 3) := dk_167 255 218 (dk_at dksX7_digest_6 4 rfl rfl)
theorem dX7_digest_148 : decode cX7_digest 148 = .ok (.aload_n 0, 1) := dk_42 (dk_at dksX7_digest_6 7 rfl rfl)
theorem dX7_digest_149 : decode cX7_digest 149 = .ok (.getfield 32, 3) := dk_180 0 32 (dk_at dksX7_digest_6 8 rfl rfl)
theorem dX7_digest_152 : decode cX7_digest 152 = .ok (.astore_n 3, 1) := dk_78 (dk_at dksX7_digest_6 11 rfl rfl)
theorem dX7_digest_153 : decode cX7_digest 153 = .ok (.aload_n 3, 1) := dk_45 (dk_at dksX7_digest_6 12 rfl rfl)
theorem dX7_digest_154 : decode cX7_digest 154 = .ok (.arraylength, 1) := dk_190 (dk_at dksX7_digest_6 13 rfl rfl)
theorem dX7_digest_155 : decode cX7_digest 155 = .ok (.istore 4, 2) := dk_54 4 (dk_at dksX7_digest_6 14 rfl rfl)
theorem dX7_digest_157 : decode cX7_digest 157 = .ok (.iconst 0, 1) := dk_3 (dk_at dksX7_digest_6 16 rfl rfl)
theorem dX7_digest_158 : decode cX7_digest 158 = .ok (.istore 5, 2) := dk_54 5 (dk_at dksX7_digest_6 17 rfl rfl)
theorem dX7_digest_160 : decode cX7_digest 160 = .ok (.iload 5, 2) := dk_21 5 (dk_at dksX7_digest_6 19 rfl rfl)
theorem dX7_digest_162 : decode cX7_digest 162 = .ok (.iload 4, 2) := dk_21 4 (dk_at dksX7_digest_6 21 rfl rfl)
theorem dX7_digest_164 : decode cX7_digest 164 = .ok (.if_icmp .ge 23, 3) := dk_162 0 23 (dk_at dksX7_digest_7 0 rfl rfl)
theorem dX7_digest_167 : decode cX7_digest 167 = .ok (.aload_n 3, 1) := dk_45 (dk_at dksX7_digest_7 3 rfl rfl)
theorem dX7_digest_168 : decode cX7_digest 168 = .ok (.iload 5, 2) := dk_21 5 (dk_at dksX7_digest_7 4 rfl rfl)
theorem dX7_digest_170 : decode cX7_digest 170 = .ok (.iaload, 1) := dk_46 (dk_at dksX7_digest_7 6 rfl rfl)
theorem dX7_digest_171 : decode cX7_digest 171 = .ok (.istore 6, 2) := dk_54 6 (dk_at dksX7_digest_7 7 rfl rfl)
theorem dX7_digest_173 : decode cX7_digest 173 = .ok (.lload_n 1, 1) := dk_31 (dk_at dksX7_digest_7 9 rfl rfl)
theorem dX7_digest_174 : decode cX7_digest 174 = .ok (.iload 6, 2) := dk_21 6 (dk_at dksX7_digest_7 10 rfl rfl)
theorem dX7_digest_176 : decode cX7_digest 176 = .ok (.i2l, 1) := dk_133 (dk_at dksX7_digest_7 12 rfl rfl)
theorem dX7_digest_177 : decode cX7_digest 177 = .ok (.invokestatic 328, 3) := dk_184 1 72 (dk_at dksX7_digest_7 13 rfl rfl)
theorem dX7_digest_180 : decode cX7_digest 180 = .ok (.lstore_n 1, 1) := dk_64 (dk_at dksX7_digest_7 16 rfl rfl)
theorem dX7_digest_181 : decode cX7_digest 181 = .ok (.iinc 5 1, 3) := dk_132 5 1 (dk_at dksX7_digest_7 17 rfl rfl)
theorem dX7_digest_184 : decode cX7_digest 184 = .ok (.goto (-24), 3) := dk_167 255 232 (dk_at dksX7_digest_7 20 rfl rfl)
theorem dX7_digest_187 : decode cX7_digest 187 = .ok (.iconst 0, 1) := dk_3 (dk_at dksX7_digest_7 23 rfl rfl)
theorem dX7_digest_188 : decode cX7_digest 188 = .ok (.istore_n 3, 1) := dk_62 (dk_at dksX7_digest_8 0 rfl rfl)
theorem dX7_digest_189 : decode cX7_digest 189 = .ok (.iload_n 3, 1) := dk_29 (dk_at dksX7_digest_8 1 rfl rfl)
theorem dX7_digest_190 : decode cX7_digest 190 = .ok (.iconst 3, 1) := dk_6 (dk_at dksX7_digest_8 2 rfl rfl)
theorem dX7_digest_191 : decode cX7_digest 191 = .ok (.if_icmp .ge 37, 3) := dk_162 0 37 (dk_at dksX7_digest_8 3 rfl rfl)
theorem dX7_digest_194 : decode cX7_digest 194 = .ok (.iconst 0, 1) := dk_3 (dk_at dksX7_digest_8 6 rfl rfl)
theorem dX7_digest_195 : decode cX7_digest 195 = .ok (.istore 4, 2) := dk_54 4 (dk_at dksX7_digest_8 7 rfl rfl)
theorem dX7_digest_197 : decode cX7_digest 197 = .ok (.iload 4, 2) := dk_21 4 (dk_at dksX7_digest_8 9 rfl rfl)
theorem dX7_digest_199 : decode cX7_digest 199 = .ok (.iconst 3, 1) := dk_6 (dk_at dksX7_digest_8 11 rfl rfl)
theorem dX7_digest_200 : decode cX7_digest 200 = .ok (.if_icmp .ge 22, 3) := dk_162 0 22 (dk_at dksX7_digest_8 12 rfl rfl)
theorem dX7_digest_203 : decode cX7_digest 203 = .ok (.lload_n 1, 1) := dk_31 (dk_at dksX7_digest_8 15 rfl rfl)
theorem dX7_digest_204 : decode cX7_digest 204 = .ok (.aload_n 0, 1) := dk_42 (dk_at dksX7_digest_8 16 rfl rfl)
theorem dX7_digest_205 : decode cX7_digest 205 = .ok (.iload_n 3, 1) := dk_29 (dk_at dksX7_digest_8 17 rfl rfl)
theorem dX7_digest_206 : decode cX7_digest 206 = .ok (.iload 4, 2) := dk_21 4 (dk_at dksX7_digest_8 18 rfl rfl)
theorem dX7_digest_208 : decode cX7_digest 208 = .ok (.invokevirtual 294, 3) := dk_182 1 38 (dk_at dksX7_digest_8 20 rfl rfl)
theorem dX7_digest_211 : decode cX7_digest 211 = .ok (.i2l, 1) := dk_133 (dk_at dksX7_digest_8 23 rfl rfl)
theorem dX7_digest_212 : decode cX7_digest 212 = .ok (.invokestatic 328, 3) := dk_184 1 72 (dk_at dksX7_digest_9 0 rfl rfl)
theorem dX7_digest_215 : decode cX7_digest 215 = .ok (.lstore_n 1, 1) := dk_64 (dk_at dksX7_digest_9 3 rfl rfl)
theorem dX7_digest_216 : decode cX7_digest 216 = .ok (.iinc 4 1, 3) := dk_132 4 1 (dk_at dksX7_digest_9 4 rfl rfl)
theorem dX7_digest_219 : decode cX7_digest 219 = .ok (.goto (-22), 3) := dk_167 255 234 (dk_at dksX7_digest_9 7 rfl rfl)
theorem dX7_digest_222 : decode cX7_digest 222 = .ok (.iinc 3 1, 3) := dk_132 3 1 (dk_at dksX7_digest_9 10 rfl rfl)
theorem dX7_digest_225 : decode cX7_digest 225 = .ok (.goto (-36), 3) := dk_167 255 220 (dk_at dksX7_digest_9 13 rfl rfl)
theorem dX7_digest_228 : decode cX7_digest 228 = .ok (.lload_n 1, 1) := dk_31 (dk_at dksX7_digest_9 16 rfl rfl)
theorem dX7_digest_229 : decode cX7_digest 229 = .ok (.aload_n 0, 1) := dk_42 (dk_at dksX7_digest_9 17 rfl rfl)
theorem dX7_digest_230 : decode cX7_digest 230 = .ok (.getfield 12, 3) := dk_180 0 12 (dk_at dksX7_digest_9 18 rfl rfl)
theorem dX7_digest_233 : decode cX7_digest 233 = .ok (.iconst 1, 1) := dk_4 (dk_at dksX7_digest_9 21 rfl rfl)
theorem dX7_digest_234 : decode cX7_digest 234 = .ok (.iconst 0, 1) := dk_3 (dk_at dksX7_digest_9 22 rfl rfl)
theorem dX7_digest_235 : decode cX7_digest 235 = .ok (.invokevirtual 305, 3) := dk_182 1 49 (dk_at dksX7_digest_10 0 rfl rfl)
theorem dX7_digest_238 : decode cX7_digest 238 = .ok (.i2l, 1) := dk_133 (dk_at dksX7_digest_10 3 rfl rfl)
theorem dX7_digest_239 : decode cX7_digest 239 = .ok (.invokestatic 328, 3) := dk_184 1 72 (dk_at dksX7_digest_10 4 rfl rfl)
theorem dX7_digest_242 : decode cX7_digest 242 = .ok (.aload_n 0, 1) := dk_42 (dk_at dksX7_digest_10 7 rfl rfl)
theorem dX7_digest_243 : decode cX7_digest 243 = .ok (.getfield 12, 3) := dk_180 0 12 (dk_at dksX7_digest_10 8 rfl rfl)
theorem dX7_digest_246 : decode cX7_digest 246 = .ok (.iconst 0, 1) := dk_3 (dk_at dksX7_digest_10 11 rfl rfl)
theorem dX7_digest_247 : decode cX7_digest 247 = .ok (.iconst 0, 1) := dk_3 (dk_at dksX7_digest_10 12 rfl rfl)
theorem dX7_digest_248 : decode cX7_digest 248 = .ok (.invokevirtual 305, 3) := dk_182 1 49 (dk_at dksX7_digest_10 13 rfl rfl)
theorem dX7_digest_251 : decode cX7_digest 251 = .ok (.i2l, 1) := dk_133 (dk_at dksX7_digest_10 16 rfl rfl)
theorem dX7_digest_252 : decode cX7_digest 252 = .ok (.invokestatic 328, 3) := dk_184 1 72 (dk_at dksX7_digest_10 17 rfl rfl)
theorem dX7_digest_255 : decode cX7_digest 255 = .ok (.lstore_n 1, 1) := dk_64 (dk_at dksX7_digest_10 20 rfl rfl)
theorem dX7_digest_256 : decode cX7_digest 256 = .ok (.lload_n 1, 1) := dk_31 (dk_at dksX7_digest_10 21 rfl rfl)
theorem dX7_digest_257 : decode cX7_digest 257 = .ok (.aload_n 0, 1) := dk_42 (dk_at dksX7_digest_10 22 rfl rfl)
theorem dX7_digest_258 : decode cX7_digest 258 = .ok (.iconst (-1), 1) := dk_2 (dk_at dksX7_digest_10 23 rfl rfl)
theorem dX7_digest_259 : decode cX7_digest 259 = .ok (.invokevirtual 312, 3) := dk_182 1 56 (dk_at dksX7_digest_11 0 rfl rfl)
theorem dX7_digest_262 : decode cX7_digest 262 = .ok (.i2l, 1) := dk_133 (dk_at dksX7_digest_11 3 rfl rfl)
theorem dX7_digest_263 : decode cX7_digest 263 = .ok (.invokestatic 328, 3) := dk_184 1 72 (dk_at dksX7_digest_11 4 rfl rfl)
theorem dX7_digest_266 : decode cX7_digest 266 = .ok (.lstore_n 1, 1) := dk_64 (dk_at dksX7_digest_11 7 rfl rfl)
theorem dX7_digest_267 : decode cX7_digest 267 = .ok (.lload_n 1, 1) := dk_31 (dk_at dksX7_digest_11 8 rfl rfl)
theorem dX7_digest_268 : decode cX7_digest 268 = .ok (.aload_n 0, 1) := dk_42 (dk_at dksX7_digest_11 9 rfl rfl)
theorem dX7_digest_269 : decode cX7_digest 269 = .ok (.invokevirtual 321, 3) := dk_182 1 65 (dk_at dksX7_digest_11 10 rfl rfl)
theorem dX7_digest_272 : decode cX7_digest 272 = .ok (.invokestatic 151, 3) := dk_184 0 151 (dk_at dksX7_digest_11 13 rfl rfl)
theorem dX7_digest_275 : decode cX7_digest 275 = .ok (.i2l, 1) := dk_133 (dk_at dksX7_digest_11 16 rfl rfl)
theorem dX7_digest_276 : decode cX7_digest 276 = .ok (.invokestatic 328, 3) := dk_184 1 72 (dk_at dksX7_digest_11 17 rfl rfl)
theorem dX7_digest_279 : decode cX7_digest 279 = .ok (.lreturn, 1) := dk_173 (dk_at dksX7_digest_11 20 rfl rfl)
abbrev cX7_add : ByteArray := prog_15_method_59_code
def yX7_add : MethodName := ⟨RX7, "add", "(JJ)J"⟩
def dkwX7_add_0 : List UInt8 := [30, 20, 1, 68, 105, 32, 97, 173]
abbrev dktX7_add_0 : List UInt8 := dkwX7_add_0 ++ []
theorem dksX7_add_0 : cX7_add.data.toList.drop 0 = dktX7_add_0 := by decide +kernel
theorem dX7_add_0 : decode cX7_add 0 = .ok (.lload_n 0, 1) := dk_30 (dk_at dksX7_add_0 0 rfl rfl)
theorem dX7_add_1 : decode cX7_add 1 = .ok (.ldc2_w 324, 3) := dk_20 1 68 (dk_at dksX7_add_0 1 rfl rfl)
theorem dX7_add_4 : decode cX7_add 4 = .ok (.lmul, 1) := dk_105 (dk_at dksX7_add_0 4 rfl rfl)
theorem dX7_add_5 : decode cX7_add 5 = .ok (.lload_n 2, 1) := dk_32 (dk_at dksX7_add_0 5 rfl rfl)
theorem dX7_add_6 : decode cX7_add 6 = .ok (.ladd, 1) := dk_97 (dk_at dksX7_add_0 6 rfl rfl)
theorem dX7_add_7 : decode cX7_add 7 = .ok (.lreturn, 1) := dk_173 (dk_at dksX7_add_0 7 rfl rfl)
theorem q77 : (Jvm.Cond.initialized "SplitpointerModel") ∈ lw_all := lw_g (lw_at lw_m1 14 rfl) rfl
theorem q262 : (Jvm.Cond.selects "SplitpointerModel" ({ cls := "java/lang/Object", name := "getClass", desc := "()Ljava/lang/Class;" } : Jvm.MethodName) ({ cls := "java/lang/Object", name := "getClass", desc := "()Ljava/lang/Class;" } : Jvm.MethodName)) ∈ lw_all := lw_g (lw_at lw_m1 199 rfl) rfl
theorem q1399 : (Jvm.Cond.instantiable "SplitpointerModel" (13 : Nat)) ∈ lw_all := lw_g (lw_at lw_m6 136 rfl) rfl
theorem q1401 : (Jvm.Cond.instanceMethod ({ cls := "SplitpointerModel", name := "<init>", desc := "()V" } : Jvm.MethodName)) ∈ lw_all := lw_g (lw_at lw_m6 138 rfl) rfl
theorem q1402 : (Jvm.Cond.code ({ cls := "SplitpointerModel", name := "<init>", desc := "()V" } : Jvm.MethodName) prog_15_method_1_code (1 : Nat) (Option.none : Option Jvm.ClassFile.FieldType)) ∈ lw_all := lw_g (lw_at lw_m6 139 rfl) rfl
theorem q1403 : (Jvm.Cond.methodLink "SplitpointerModel" (1 : Nat) ({ cls := "java/lang/Object", name := "<init>", desc := "()V" } : Jvm.MethodName)) ∈ lw_all := lw_g (lw_at lw_m6 140 rfl) rfl
theorem q1404 : (Jvm.Cond.classLink "SplitpointerModel" (7 : Nat) "SplitpointerModel$Disk") ∈ lw_all := lw_g (lw_at lw_m6 141 rfl) rfl
theorem q1406 : (Jvm.Cond.methodLink "SplitpointerModel" (9 : Nat) ({ cls := "SplitpointerModel$Disk", name := "<init>", desc := "(I)V" } : Jvm.MethodName)) ∈ lw_all := lw_g (lw_at lw_m6 143 rfl) rfl
theorem q1426 : (Jvm.Cond.fieldLink "SplitpointerModel" (245 : Nat) "SplitpointerModel$Bucket" "rows" "Ljava/util/ArrayList;") ∈ lw_all := lw_g (lw_at lw_m6 163 rfl) rfl
theorem q1429 : (Jvm.Cond.fieldLink "SplitpointerModel" (142 : Nat) "SplitpointerModel$Bucket" "pages" "Ljava/util/ArrayList;") ∈ lw_all := lw_g (lw_at lw_m6 166 rfl) rfl
theorem q1432 : (Jvm.Cond.fieldLink "SplitpointerModel" (248 : Nat) "SplitpointerModel$Bucket" "filter" "I") ∈ lw_all := lw_g (lw_at lw_m6 169 rfl) rfl
theorem q1538 : (Jvm.Cond.selects "SplitpointerModel" ({ cls := "java/lang/Object", name := "equals", desc := "(Ljava/lang/Object;)Z" } : Jvm.MethodName) ({ cls := "java/lang/Object", name := "equals", desc := "(Ljava/lang/Object;)Z" } : Jvm.MethodName)) ∈ lw_all := lw_g (lw_at lw_m7 35 rfl) rfl
theorem q1563 : (Jvm.Cond.fieldLink "SplitpointerModel" (145 : Nat) "SplitpointerModel$Disk" "cap" "I") ∈ lw_all := lw_g (lw_at lw_m7 60 rfl) rfl
theorem q1565 : (Jvm.Cond.fieldLink "SplitpointerModel" (216 : Nat) "SplitpointerModel$Disk" "lower" "I") ∈ lw_all := lw_g (lw_at lw_m7 62 rfl) rfl
theorem q1567 : (Jvm.Cond.fieldLink "SplitpointerModel" (219 : Nat) "SplitpointerModel$Disk" "upper" "I") ∈ lw_all := lw_g (lw_at lw_m7 64 rfl) rfl
theorem q1569 : (Jvm.Cond.fieldLink "SplitpointerModel" (222 : Nat) "SplitpointerModel$Disk" "choice" "I") ∈ lw_all := lw_g (lw_at lw_m7 66 rfl) rfl
theorem q1571 : (Jvm.Cond.fieldLink "SplitpointerModel" (225 : Nat) "SplitpointerModel$Disk" "seed" "I") ∈ lw_all := lw_g (lw_at lw_m7 68 rfl) rfl
theorem q1573 : (Jvm.Cond.fieldLink "SplitpointerModel" (233 : Nat) "SplitpointerModel$Disk" "splits" "I") ∈ lw_all := lw_g (lw_at lw_m7 70 rfl) rfl
theorem q1575 : (Jvm.Cond.fieldLink "SplitpointerModel" (236 : Nat) "SplitpointerModel$Disk" "merges" "I") ∈ lw_all := lw_g (lw_at lw_m7 72 rfl) rfl
theorem q1577 : (Jvm.Cond.fieldLink "SplitpointerModel" (242 : Nat) "SplitpointerModel$Disk" "buckets" "Ljava/util/ArrayList;") ∈ lw_all := lw_g (lw_at lw_m7 74 rfl) rfl
theorem q1595 : (Jvm.Cond.classLink "SplitpointerModel" (25 : Nat) "java/util/ArrayList") ∈ lw_all := lw_g (lw_at lw_m7 92 rfl) rfl
theorem q1596 : (Jvm.Cond.methodLink "SplitpointerModel" (27 : Nat) ({ cls := "java/util/ArrayList", name := "<init>", desc := "()V" } : Jvm.MethodName)) ∈ lw_all := lw_g (lw_at lw_m7 93 rfl) rfl
theorem q1597 : (Jvm.Cond.fieldLink "SplitpointerModel" (48 : Nat) "SplitpointerModel" "thrown" "I") ∈ lw_all := lw_g (lw_at lw_m7 94 rfl) rfl
theorem q1598 : (Jvm.Cond.fieldLink "SplitpointerModel" (12 : Nat) "SplitpointerModel" "now" "LSplitpointerModel$Disk;") ∈ lw_all := lw_g (lw_at lw_m7 95 rfl) rfl
theorem q1599 : (Jvm.Cond.fieldLink "SplitpointerModel" (18 : Nat) "SplitpointerModel" "safe" "LSplitpointerModel$Disk;") ∈ lw_all := lw_g (lw_at lw_m7 96 rfl) rfl
theorem q1600 : (Jvm.Cond.fieldLink "SplitpointerModel" (21 : Nat) "SplitpointerModel" "group" "I") ∈ lw_all := lw_g (lw_at lw_m7 97 rfl) rfl
theorem q1601 : (Jvm.Cond.fieldLink "SplitpointerModel" (82 : Nat) "SplitpointerModel" "logged" "I") ∈ lw_all := lw_g (lw_at lw_m7 98 rfl) rfl
theorem q1602 : (Jvm.Cond.fieldLink "SplitpointerModel" (28 : Nat) "SplitpointerModel" "waiting" "Ljava/util/ArrayList;") ∈ lw_all := lw_g (lw_at lw_m7 99 rfl) rfl
theorem q1603 : (Jvm.Cond.fieldLink "SplitpointerModel" (32 : Nat) "SplitpointerModel" "marks" "[I") ∈ lw_all := lw_g (lw_at lw_m7 100 rfl) rfl
theorem q1604 : (Jvm.Cond.fieldLink "SplitpointerModel" (36 : Nat) "SplitpointerModel" "images" "[I") ∈ lw_all := lw_g (lw_at lw_m7 101 rfl) rfl
theorem q1605 : (Jvm.Cond.fieldLink "SplitpointerModel" (139 : Nat) "SplitpointerModel" "reads" "I") ∈ lw_all := lw_g (lw_at lw_m7 102 rfl) rfl
theorem q1606 : (Jvm.Cond.fieldLink "SplitpointerModel" (148 : Nat) "SplitpointerModel" "falses" "I") ∈ lw_all := lw_g (lw_at lw_m7 103 rfl) rfl
theorem q1607 : (Jvm.Cond.fieldLink "SplitpointerModel" (181 : Nat) "SplitpointerModel" "forwards" "I") ∈ lw_all := lw_g (lw_at lw_m7 104 rfl) rfl
theorem q1608 : (Jvm.Cond.fieldLink "SplitpointerModel" (189 : Nat) "SplitpointerModel" "crashes" "I") ∈ lw_all := lw_g (lw_at lw_m7 105 rfl) rfl
theorem q1609 : (Jvm.Cond.fieldLink "SplitpointerModel" (192 : Nat) "SplitpointerModel" "refused" "I") ∈ lw_all := lw_g (lw_at lw_m7 106 rfl) rfl
theorem q1610 : (Jvm.Cond.lays "SplitpointerModel" "SplitpointerModel" "thrown" "I") ∈ lw_all := lw_g (lw_at lw_m7 107 rfl) rfl
theorem q1611 : (Jvm.Cond.soleField "SplitpointerModel" "thrown") ∈ lw_all := lw_g (lw_at lw_m7 108 rfl) rfl
theorem q1612 : (Jvm.Cond.lays "SplitpointerModel" "SplitpointerModel" "now" "LSplitpointerModel$Disk;") ∈ lw_all := lw_g (lw_at lw_m7 109 rfl) rfl
theorem q1613 : (Jvm.Cond.soleField "SplitpointerModel" "now") ∈ lw_all := lw_g (lw_at lw_m7 110 rfl) rfl
theorem q1614 : (Jvm.Cond.lays "SplitpointerModel" "SplitpointerModel" "safe" "LSplitpointerModel$Disk;") ∈ lw_all := lw_g (lw_at lw_m7 111 rfl) rfl
theorem q1615 : (Jvm.Cond.soleField "SplitpointerModel" "safe") ∈ lw_all := lw_g (lw_at lw_m7 112 rfl) rfl
theorem q1616 : (Jvm.Cond.lays "SplitpointerModel" "SplitpointerModel" "group" "I") ∈ lw_all := lw_g (lw_at lw_m7 113 rfl) rfl
theorem q1617 : (Jvm.Cond.soleField "SplitpointerModel" "group") ∈ lw_all := lw_g (lw_at lw_m7 114 rfl) rfl
theorem q1618 : (Jvm.Cond.lays "SplitpointerModel" "SplitpointerModel" "logged" "I") ∈ lw_all := lw_g (lw_at lw_m7 115 rfl) rfl
theorem q1619 : (Jvm.Cond.soleField "SplitpointerModel" "logged") ∈ lw_all := lw_g (lw_at lw_m7 116 rfl) rfl
theorem q1620 : (Jvm.Cond.laysFinal "SplitpointerModel" "SplitpointerModel" "waiting" "Ljava/util/ArrayList;") ∈ lw_all := lw_g (lw_at lw_m7 117 rfl) rfl
theorem q1621 : (Jvm.Cond.soleField "SplitpointerModel" "waiting") ∈ lw_all := lw_g (lw_at lw_m7 118 rfl) rfl
theorem q1622 : (Jvm.Cond.laysFinal "SplitpointerModel" "SplitpointerModel" "marks" "[I") ∈ lw_all := lw_g (lw_at lw_m7 119 rfl) rfl
theorem q1623 : (Jvm.Cond.soleField "SplitpointerModel" "marks") ∈ lw_all := lw_g (lw_at lw_m7 120 rfl) rfl
theorem q1624 : (Jvm.Cond.laysFinal "SplitpointerModel" "SplitpointerModel" "images" "[I") ∈ lw_all := lw_g (lw_at lw_m7 121 rfl) rfl
theorem q1625 : (Jvm.Cond.soleField "SplitpointerModel" "images") ∈ lw_all := lw_g (lw_at lw_m7 122 rfl) rfl
theorem q1626 : (Jvm.Cond.lays "SplitpointerModel" "SplitpointerModel" "reads" "I") ∈ lw_all := lw_g (lw_at lw_m7 123 rfl) rfl
theorem q1627 : (Jvm.Cond.soleField "SplitpointerModel" "reads") ∈ lw_all := lw_g (lw_at lw_m7 124 rfl) rfl
theorem q1628 : (Jvm.Cond.lays "SplitpointerModel" "SplitpointerModel" "falses" "I") ∈ lw_all := lw_g (lw_at lw_m7 125 rfl) rfl
theorem q1629 : (Jvm.Cond.soleField "SplitpointerModel" "falses") ∈ lw_all := lw_g (lw_at lw_m7 126 rfl) rfl
theorem q1630 : (Jvm.Cond.lays "SplitpointerModel" "SplitpointerModel" "forwards" "I") ∈ lw_all := lw_g (lw_at lw_m7 127 rfl) rfl
theorem q1631 : (Jvm.Cond.soleField "SplitpointerModel" "forwards") ∈ lw_all := lw_g (lw_at lw_m7 128 rfl) rfl
theorem q1632 : (Jvm.Cond.lays "SplitpointerModel" "SplitpointerModel" "crashes" "I") ∈ lw_all := lw_g (lw_at lw_m7 129 rfl) rfl
theorem q1633 : (Jvm.Cond.soleField "SplitpointerModel" "crashes") ∈ lw_all := lw_g (lw_at lw_m7 130 rfl) rfl
theorem q1634 : (Jvm.Cond.lays "SplitpointerModel" "SplitpointerModel" "refused" "I") ∈ lw_all := lw_g (lw_at lw_m7 131 rfl) rfl
theorem q1635 : (Jvm.Cond.soleField "SplitpointerModel" "refused") ∈ lw_all := lw_g (lw_at lw_m7 132 rfl) rfl
theorem q1636 : (Jvm.Cond.superclass "SplitpointerModel" "java/lang/Object") ∈ lw_all := lw_g (lw_at lw_m7 133 rfl) rfl
theorem q1638 : (Jvm.Cond.instanceMethod ({ cls := "SplitpointerModel", name := "thrown", desc := "()I" } : Jvm.MethodName)) ∈ lw_all := lw_g (lw_at lw_m7 135 rfl) rfl
theorem q1639 : (Jvm.Cond.selects "SplitpointerModel" ({ cls := "SplitpointerModel", name := "thrown", desc := "()I" } : Jvm.MethodName) ({ cls := "SplitpointerModel", name := "thrown", desc := "()I" } : Jvm.MethodName)) ∈ lw_all := lw_g (lw_at lw_m7 136 rfl) rfl
theorem q1640 : (Jvm.Cond.code ({ cls := "SplitpointerModel", name := "thrown", desc := "()I" } : Jvm.MethodName) prog_15_method_11_code (1 : Nat) (Option.some Jvm.ClassFile.FieldType.int)) ∈ lw_all := lw_g (lw_at lw_m7 137 rfl) rfl
theorem q1642 : (Jvm.Cond.instanceMethod ({ cls := "SplitpointerModel", name := "found", desc := "(II)I" } : Jvm.MethodName)) ∈ lw_all := lw_g (lw_at lw_m7 139 rfl) rfl
theorem q1643 : (Jvm.Cond.selects "SplitpointerModel" ({ cls := "SplitpointerModel", name := "found", desc := "(II)I" } : Jvm.MethodName) ({ cls := "SplitpointerModel", name := "found", desc := "(II)I" } : Jvm.MethodName)) ∈ lw_all := lw_g (lw_at lw_m7 140 rfl) rfl
theorem q1644 : (Jvm.Cond.code ({ cls := "SplitpointerModel", name := "found", desc := "(II)I" } : Jvm.MethodName) prog_15_method_20_code (4 : Nat) (Option.some Jvm.ClassFile.FieldType.int)) ∈ lw_all := lw_g (lw_at lw_m7 141 rfl) rfl
theorem q1645 : (Jvm.Cond.methodLink "SplitpointerModel" (55 : Nat) ({ cls := "SplitpointerModel", name := "isIn", desc := "(III)Z" } : Jvm.MethodName)) ∈ lw_all := lw_g (lw_at lw_m7 142 rfl) rfl
theorem q1646 : (Jvm.Cond.static ({ cls := "SplitpointerModel", name := "isIn", desc := "(III)Z" } : Jvm.MethodName)) ∈ lw_all := lw_g (lw_at lw_m7 143 rfl) rfl
theorem q1647 : (Jvm.Cond.code ({ cls := "SplitpointerModel", name := "isIn", desc := "(III)Z" } : Jvm.MethodName) prog_15_method_2_code (3 : Nat) (Option.some Jvm.ClassFile.FieldType.boolean)) ∈ lw_all := lw_g (lw_at lw_m7 144 rfl) rfl
theorem q1648 : (Jvm.Cond.methodLink "SplitpointerModel" (105 : Nat) ({ cls := "SplitpointerModel", name := "start", desc := "(ZI)Z" } : Jvm.MethodName)) ∈ lw_all := lw_g (lw_at lw_m7 145 rfl) rfl
theorem q1649 : (Jvm.Cond.privateMethod ({ cls := "SplitpointerModel", name := "start", desc := "(ZI)Z" } : Jvm.MethodName)) ∈ lw_tbl := lw_at lw_m7 146 rfl
theorem q1650 : (Jvm.Cond.instanceMethod ({ cls := "SplitpointerModel", name := "start", desc := "(ZI)Z" } : Jvm.MethodName)) ∈ lw_all := lw_g (lw_at lw_m7 147 rfl) rfl
theorem q1651 : (Jvm.Cond.code ({ cls := "SplitpointerModel", name := "start", desc := "(ZI)Z" } : Jvm.MethodName) prog_15_method_13_code (3 : Nat) (Option.some Jvm.ClassFile.FieldType.boolean)) ∈ lw_all := lw_g (lw_at lw_m7 148 rfl) rfl
theorem q1652 : (Jvm.Cond.methodLink "SplitpointerModel" (51 : Nat) ({ cls := "SplitpointerModel", name := "refuse", desc := "(ZI)Z" } : Jvm.MethodName)) ∈ lw_all := lw_g (lw_at lw_m7 149 rfl) rfl
theorem q1653 : (Jvm.Cond.privateMethod ({ cls := "SplitpointerModel", name := "refuse", desc := "(ZI)Z" } : Jvm.MethodName)) ∈ lw_tbl := lw_at lw_m7 150 rfl
theorem q1654 : (Jvm.Cond.instanceMethod ({ cls := "SplitpointerModel", name := "refuse", desc := "(ZI)Z" } : Jvm.MethodName)) ∈ lw_all := lw_g (lw_at lw_m7 151 rfl) rfl
theorem q1655 : (Jvm.Cond.code ({ cls := "SplitpointerModel", name := "refuse", desc := "(ZI)Z" } : Jvm.MethodName) prog_15_method_12_code (3 : Nat) (Option.some Jvm.ClassFile.FieldType.boolean)) ∈ lw_all := lw_g (lw_at lw_m7 152 rfl) rfl
theorem q1656 : (Jvm.Cond.methodLink "SplitpointerModel" (108 : Nat) ({ cls := "SplitpointerModel$Disk", name := "records", desc := "()I" } : Jvm.MethodName)) ∈ lw_all := lw_g (lw_at lw_m7 153 rfl) rfl
theorem q1661 : (Jvm.Cond.methodLink "SplitpointerModel" (95 : Nat) ({ cls := "SplitpointerModel", name := "keep", desc := "()V" } : Jvm.MethodName)) ∈ lw_all := lw_g (lw_at lw_m7 158 rfl) rfl
theorem q1662 : (Jvm.Cond.privateMethod ({ cls := "SplitpointerModel", name := "keep", desc := "()V" } : Jvm.MethodName)) ∈ lw_tbl := lw_at lw_m7 159 rfl
theorem q1663 : (Jvm.Cond.instanceMethod ({ cls := "SplitpointerModel", name := "keep", desc := "()V" } : Jvm.MethodName)) ∈ lw_all := lw_g (lw_at lw_m7 160 rfl) rfl
theorem q1664 : (Jvm.Cond.code ({ cls := "SplitpointerModel", name := "keep", desc := "()V" } : Jvm.MethodName) prog_15_method_18_code (1 : Nat) (Option.none : Option Jvm.ClassFile.FieldType)) ∈ lw_all := lw_g (lw_at lw_m7 161 rfl) rfl
theorem q1665 : (Jvm.Cond.methodLink "SplitpointerModel" (91 : Nat) ({ cls := "SplitpointerModel$Disk", name := "copy", desc := "()LSplitpointerModel$Disk;" } : Jvm.MethodName)) ∈ lw_all := lw_g (lw_at lw_m7 162 rfl) rfl
theorem q1690 : (Jvm.Cond.methodLink "SplitpointerModel" (88 : Nat) ({ cls := "java/util/ArrayList", name := "clear", desc := "()V" } : Jvm.MethodName)) ∈ lw_all := lw_g (lw_at lw_m7 187 rfl) rfl
theorem q1691 : (Jvm.Cond.methodLink "SplitpointerModel" (111 : Nat) ({ cls := "java/util/Arrays", name := "fill", desc := "([II)V" } : Jvm.MethodName)) ∈ lw_all := lw_g (lw_at lw_m7 188 rfl) rfl
theorem q1695 : (Jvm.Cond.instanceMethod ({ cls := "SplitpointerModel", name := "bounds", desc := "(II)I" } : Jvm.MethodName)) ∈ lw_all := lw_g (lw_at lw_m7 192 rfl) rfl
theorem q1696 : (Jvm.Cond.selects "SplitpointerModel" ({ cls := "SplitpointerModel", name := "bounds", desc := "(II)I" } : Jvm.MethodName) ({ cls := "SplitpointerModel", name := "bounds", desc := "(II)I" } : Jvm.MethodName)) ∈ lw_all := lw_g (lw_at lw_m7 193 rfl) rfl
theorem q1697 : (Jvm.Cond.code ({ cls := "SplitpointerModel", name := "bounds", desc := "(II)I" } : Jvm.MethodName) prog_15_method_21_code (3 : Nat) (Option.some Jvm.ClassFile.FieldType.int)) ∈ lw_all := lw_g (lw_at lw_m7 194 rfl) rfl
theorem q1698 : (Jvm.Cond.methodLink "SplitpointerModel" (117 : Nat) ({ cls := "SplitpointerModel", name := "act", desc := "(III)I" } : Jvm.MethodName)) ∈ lw_all := lw_g (lw_at lw_m7 195 rfl) rfl
theorem q1699 : (Jvm.Cond.privateMethod ({ cls := "SplitpointerModel", name := "act", desc := "(III)I" } : Jvm.MethodName)) ∈ lw_tbl := lw_at lw_m7 196 rfl
theorem q1700 : (Jvm.Cond.instanceMethod ({ cls := "SplitpointerModel", name := "act", desc := "(III)I" } : Jvm.MethodName)) ∈ lw_all := lw_g (lw_at lw_m7 197 rfl) rfl
theorem q1701 : (Jvm.Cond.code ({ cls := "SplitpointerModel", name := "act", desc := "(III)I" } : Jvm.MethodName) prog_15_method_19_code (6 : Nat) (Option.some Jvm.ClassFile.FieldType.int)) ∈ lw_all := lw_g (lw_at lw_m7 198 rfl) rfl
theorem q1702 : (Jvm.Cond.methodLink "SplitpointerModel" (85 : Nat) ({ cls := "java/util/ArrayList", name := "size", desc := "()I" } : Jvm.MethodName)) ∈ lw_all := lw_g (lw_at lw_m7 199 rfl) rfl
theorem q1703 : (Jvm.Cond.methodLink "SplitpointerModel" (78 : Nat) ({ cls := "SplitpointerModel$Disk", name := "act", desc := "([I)I" } : Jvm.MethodName)) ∈ lw_all := lw_g (lw_at lw_m7 200 rfl) rfl
theorem q1728 : (Jvm.Cond.static ({ cls := "SplitpointerModel", name := "address", desc := "(II)I" } : Jvm.MethodName)) ∈ lw_all := lw_g (lw_at lw_m7 225 rfl) rfl
theorem q1729 : (Jvm.Cond.code ({ cls := "SplitpointerModel", name := "address", desc := "(II)I" } : Jvm.MethodName) prog_15_method_6_code (4 : Nat) (Option.some Jvm.ClassFile.FieldType.int)) ∈ lw_all := lw_g (lw_at lw_m7 226 rfl) rfl
theorem q1730 : (Jvm.Cond.methodLink "SplitpointerModel" (39 : Nat) ({ cls := "java/lang/Integer", name := "highestOneBit", desc := "(I)I" } : Jvm.MethodName)) ∈ lw_all := lw_g (lw_at lw_m7 227 rfl) rfl
theorem q1751 : (Jvm.Cond.static ({ cls := "SplitpointerModel", name := "both", desc := "(I)I" } : Jvm.MethodName)) ∈ lw_all := lw_g (lw_at lw_m8 8 rfl) rfl
theorem q1752 : (Jvm.Cond.code ({ cls := "SplitpointerModel", name := "both", desc := "(I)I" } : Jvm.MethodName) prog_15_method_9_code (1 : Nat) (Option.some Jvm.ClassFile.FieldType.int)) ∈ lw_all := lw_g (lw_at lw_m8 9 rfl) rfl
theorem q1763 : (Jvm.Cond.static ({ cls := "SplitpointerModel", name := "pointer", desc := "(I)I" } : Jvm.MethodName)) ∈ lw_all := lw_g (lw_at lw_m8 20 rfl) rfl
theorem q1764 : (Jvm.Cond.code ({ cls := "SplitpointerModel", name := "pointer", desc := "(I)I" } : Jvm.MethodName) prog_15_method_5_code (1 : Nat) (Option.some Jvm.ClassFile.FieldType.int)) ∈ lw_all := lw_g (lw_at lw_m8 21 rfl) rfl
theorem q1806 : (Jvm.Cond.methodLink "SplitpointerModel" (98 : Nat) ({ cls := "java/util/ArrayList", name := "add", desc := "(Ljava/lang/Object;)Z" } : Jvm.MethodName)) ∈ lw_all := lw_g (lw_at lw_m8 63 rfl) rfl
theorem q1807 : (Jvm.Cond.methodLink "SplitpointerModel" (102 : Nat) ({ cls := "SplitpointerModel", name := "flushAll", desc := "()V" } : Jvm.MethodName)) ∈ lw_all := lw_g (lw_at lw_m8 64 rfl) rfl
theorem q1808 : (Jvm.Cond.privateMethod ({ cls := "SplitpointerModel", name := "flushAll", desc := "()V" } : Jvm.MethodName)) ∈ lw_tbl := lw_at lw_m8 65 rfl
theorem q1809 : (Jvm.Cond.instanceMethod ({ cls := "SplitpointerModel", name := "flushAll", desc := "()V" } : Jvm.MethodName)) ∈ lw_all := lw_g (lw_at lw_m8 66 rfl) rfl
theorem q1810 : (Jvm.Cond.code ({ cls := "SplitpointerModel", name := "flushAll", desc := "()V" } : Jvm.MethodName) prog_15_method_17_code (3 : Nat) (Option.none : Option Jvm.ClassFile.FieldType)) ∈ lw_all := lw_g (lw_at lw_m8 67 rfl) rfl
theorem q1811 : (Jvm.Cond.methodLink "SplitpointerModel" (63 : Nat) ({ cls := "java/util/ArrayList", name := "iterator", desc := "()Ljava/util/Iterator;" } : Jvm.MethodName)) ∈ lw_all := lw_g (lw_at lw_m8 68 rfl) rfl
theorem q1812 : (Jvm.Cond.interfaceEntry "SplitpointerModel" (67 : Nat)) ∈ lw_tbl := lw_at lw_m8 69 rfl
theorem q1813 : (Jvm.Cond.methodLink "SplitpointerModel" (67 : Nat) ({ cls := "java/util/Iterator", name := "hasNext", desc := "()Z" } : Jvm.MethodName)) ∈ lw_all := lw_g (lw_at lw_m8 70 rfl) rfl
theorem q1814 : (Jvm.Cond.interfaceEntry "SplitpointerModel" (73 : Nat)) ∈ lw_tbl := lw_at lw_m8 71 rfl
theorem q1815 : (Jvm.Cond.methodLink "SplitpointerModel" (73 : Nat) ({ cls := "java/util/Iterator", name := "next", desc := "()Ljava/lang/Object;" } : Jvm.MethodName)) ∈ lw_all := lw_g (lw_at lw_m8 72 rfl) rfl
theorem q1816 : (Jvm.Cond.classLink "SplitpointerModel" (77 : Nat) "[I") ∈ lw_all := lw_g (lw_at lw_m8 73 rfl) rfl
theorem q1818 : (Jvm.Cond.instanceMethod ({ cls := "SplitpointerModel", name := "put", desc := "(II)I" } : Jvm.MethodName)) ∈ lw_all := lw_g (lw_at lw_m8 75 rfl) rfl
theorem q1819 : (Jvm.Cond.selects "SplitpointerModel" ({ cls := "SplitpointerModel", name := "put", desc := "(II)I" } : Jvm.MethodName) ({ cls := "SplitpointerModel", name := "put", desc := "(II)I" } : Jvm.MethodName)) ∈ lw_all := lw_g (lw_at lw_m8 76 rfl) rfl
theorem q1820 : (Jvm.Cond.code ({ cls := "SplitpointerModel", name := "put", desc := "(II)I" } : Jvm.MethodName) prog_15_method_22_code (3 : Nat) (Option.some Jvm.ClassFile.FieldType.int)) ∈ lw_all := lw_g (lw_at lw_m8 77 rfl) rfl
theorem q1821 : (Jvm.Cond.methodLink "SplitpointerModel" (120 : Nat) ({ cls := "SplitpointerModel", name := "isNoKey", desc := "(I)Z" } : Jvm.MethodName)) ∈ lw_all := lw_g (lw_at lw_m8 78 rfl) rfl
theorem q1822 : (Jvm.Cond.static ({ cls := "SplitpointerModel", name := "isNoKey", desc := "(I)Z" } : Jvm.MethodName)) ∈ lw_all := lw_g (lw_at lw_m8 79 rfl) rfl
theorem q1823 : (Jvm.Cond.code ({ cls := "SplitpointerModel", name := "isNoKey", desc := "(I)Z" } : Jvm.MethodName) prog_15_method_14_code (1 : Nat) (Option.some Jvm.ClassFile.FieldType.boolean)) ∈ lw_all := lw_g (lw_at lw_m8 80 rfl) rfl
theorem q1824 : (Jvm.Cond.methodLink "SplitpointerModel" (124 : Nat) ({ cls := "SplitpointerModel$Disk", name := "get", desc := "(I)I" } : Jvm.MethodName)) ∈ lw_all := lw_g (lw_at lw_m8 81 rfl) rfl
theorem q1826 : (Jvm.Cond.instanceMethod ({ cls := "SplitpointerModel", name := "drop", desc := "(I)I" } : Jvm.MethodName)) ∈ lw_all := lw_g (lw_at lw_m8 83 rfl) rfl
theorem q1827 : (Jvm.Cond.selects "SplitpointerModel" ({ cls := "SplitpointerModel", name := "drop", desc := "(I)I" } : Jvm.MethodName) ({ cls := "SplitpointerModel", name := "drop", desc := "(I)I" } : Jvm.MethodName)) ∈ lw_all := lw_g (lw_at lw_m8 84 rfl) rfl
theorem q1828 : (Jvm.Cond.code ({ cls := "SplitpointerModel", name := "drop", desc := "(I)I" } : Jvm.MethodName) prog_15_method_23_code (2 : Nat) (Option.some Jvm.ClassFile.FieldType.int)) ∈ lw_all := lw_g (lw_at lw_m8 85 rfl) rfl
theorem q1830 : (Jvm.Cond.instanceMethod ({ cls := "SplitpointerModel", name := "rehash", desc := "(II)I" } : Jvm.MethodName)) ∈ lw_all := lw_g (lw_at lw_m8 87 rfl) rfl
theorem q1831 : (Jvm.Cond.selects "SplitpointerModel" ({ cls := "SplitpointerModel", name := "rehash", desc := "(II)I" } : Jvm.MethodName) ({ cls := "SplitpointerModel", name := "rehash", desc := "(II)I" } : Jvm.MethodName)) ∈ lw_all := lw_g (lw_at lw_m8 88 rfl) rfl
theorem q1832 : (Jvm.Cond.code ({ cls := "SplitpointerModel", name := "rehash", desc := "(II)I" } : Jvm.MethodName) prog_15_method_24_code (3 : Nat) (Option.some Jvm.ClassFile.FieldType.int)) ∈ lw_all := lw_g (lw_at lw_m8 89 rfl) rfl
theorem q1834 : (Jvm.Cond.instanceMethod ({ cls := "SplitpointerModel", name := "find", desc := "(I)I" } : Jvm.MethodName)) ∈ lw_all := lw_g (lw_at lw_m8 91 rfl) rfl
theorem q1835 : (Jvm.Cond.selects "SplitpointerModel" ({ cls := "SplitpointerModel", name := "find", desc := "(I)I" } : Jvm.MethodName) ({ cls := "SplitpointerModel", name := "find", desc := "(I)I" } : Jvm.MethodName)) ∈ lw_all := lw_g (lw_at lw_m8 92 rfl) rfl
theorem q1836 : (Jvm.Cond.code ({ cls := "SplitpointerModel", name := "find", desc := "(I)I" } : Jvm.MethodName) prog_15_method_25_code (4 : Nat) (Option.some Jvm.ClassFile.FieldType.int)) ∈ lw_all := lw_g (lw_at lw_m8 93 rfl) rfl
theorem q1837 : (Jvm.Cond.methodLink "SplitpointerModel" (127 : Nat) ({ cls := "SplitpointerModel$Disk", name := "has", desc := "(I)Z" } : Jvm.MethodName)) ∈ lw_all := lw_g (lw_at lw_m8 94 rfl) rfl
theorem q1841 : (Jvm.Cond.methodLink "SplitpointerModel" (130 : Nat) ({ cls := "SplitpointerModel$Disk", name := "of", desc := "(I)LSplitpointerModel$Bucket;" } : Jvm.MethodName)) ∈ lw_all := lw_g (lw_at lw_m8 98 rfl) rfl
theorem q1842 : (Jvm.Cond.methodLink "SplitpointerModel" (134 : Nat) ({ cls := "SplitpointerModel$Bucket", name := "at", desc := "(I)I" } : Jvm.MethodName)) ∈ lw_all := lw_g (lw_at lw_m8 99 rfl) rfl
theorem q1843 : (Jvm.Cond.methodLink "SplitpointerModel" (151 : Nat) ({ cls := "SplitpointerModel", name := "one", desc := "(Z)I" } : Jvm.MethodName)) ∈ lw_all := lw_g (lw_at lw_m8 100 rfl) rfl
theorem q1844 : (Jvm.Cond.static ({ cls := "SplitpointerModel", name := "one", desc := "(Z)I" } : Jvm.MethodName)) ∈ lw_all := lw_g (lw_at lw_m8 101 rfl) rfl
theorem q1845 : (Jvm.Cond.code ({ cls := "SplitpointerModel", name := "one", desc := "(Z)I" } : Jvm.MethodName) prog_15_method_3_code (1 : Nat) (Option.some Jvm.ClassFile.FieldType.int)) ∈ lw_all := lw_g (lw_at lw_m8 102 rfl) rfl
theorem q1847 : (Jvm.Cond.instanceMethod ({ cls := "SplitpointerModel", name := "open", desc := "(I)Z" } : Jvm.MethodName)) ∈ lw_all := lw_g (lw_at lw_m8 104 rfl) rfl
theorem q1848 : (Jvm.Cond.selects "SplitpointerModel" ({ cls := "SplitpointerModel", name := "open", desc := "(I)Z" } : Jvm.MethodName) ({ cls := "SplitpointerModel", name := "open", desc := "(I)Z" } : Jvm.MethodName)) ∈ lw_all := lw_g (lw_at lw_m8 105 rfl) rfl
theorem q1849 : (Jvm.Cond.code ({ cls := "SplitpointerModel", name := "open", desc := "(I)Z" } : Jvm.MethodName) prog_15_method_26_code (3 : Nat) (Option.some Jvm.ClassFile.FieldType.boolean)) ∈ lw_all := lw_g (lw_at lw_m8 106 rfl) rfl
theorem q1850 : (Jvm.Cond.methodLink "SplitpointerModel" (155 : Nat) ({ cls := "SplitpointerModel", name := "isNoneOfThree", desc := "(I)Z" } : Jvm.MethodName)) ∈ lw_all := lw_g (lw_at lw_m8 107 rfl) rfl
theorem q1851 : (Jvm.Cond.static ({ cls := "SplitpointerModel", name := "isNoneOfThree", desc := "(I)Z" } : Jvm.MethodName)) ∈ lw_all := lw_g (lw_at lw_m8 108 rfl) rfl
theorem q1852 : (Jvm.Cond.code ({ cls := "SplitpointerModel", name := "isNoneOfThree", desc := "(I)Z" } : Jvm.MethodName) prog_15_method_15_code (1 : Nat) (Option.some Jvm.ClassFile.FieldType.boolean)) ∈ lw_all := lw_g (lw_at lw_m8 109 rfl) rfl
theorem q1854 : (Jvm.Cond.instanceMethod ({ cls := "SplitpointerModel", name := "next", desc := "(I)I" } : Jvm.MethodName)) ∈ lw_all := lw_g (lw_at lw_m8 111 rfl) rfl
theorem q1855 : (Jvm.Cond.selects "SplitpointerModel" ({ cls := "SplitpointerModel", name := "next", desc := "(I)I" } : Jvm.MethodName) ({ cls := "SplitpointerModel", name := "next", desc := "(I)I" } : Jvm.MethodName)) ∈ lw_all := lw_g (lw_at lw_m8 112 rfl) rfl
theorem q1856 : (Jvm.Cond.code ({ cls := "SplitpointerModel", name := "next", desc := "(I)I" } : Jvm.MethodName) prog_15_method_28_code (3 : Nat) (Option.some Jvm.ClassFile.FieldType.int)) ∈ lw_all := lw_g (lw_at lw_m8 113 rfl) rfl
theorem q1857 : (Jvm.Cond.methodLink "SplitpointerModel" (165 : Nat) ({ cls := "SplitpointerModel", name := "behind", desc := "(I)I" } : Jvm.MethodName)) ∈ lw_all := lw_g (lw_at lw_m8 114 rfl) rfl
theorem q1858 : (Jvm.Cond.privateMethod ({ cls := "SplitpointerModel", name := "behind", desc := "(I)I" } : Jvm.MethodName)) ∈ lw_tbl := lw_at lw_m8 115 rfl
theorem q1859 : (Jvm.Cond.instanceMethod ({ cls := "SplitpointerModel", name := "behind", desc := "(I)I" } : Jvm.MethodName)) ∈ lw_all := lw_g (lw_at lw_m8 116 rfl) rfl
theorem q1860 : (Jvm.Cond.code ({ cls := "SplitpointerModel", name := "behind", desc := "(I)I" } : Jvm.MethodName) prog_15_method_27_code (6 : Nat) (Option.some Jvm.ClassFile.FieldType.int)) ∈ lw_all := lw_g (lw_at lw_m8 117 rfl) rfl
theorem q1861 : (Jvm.Cond.methodLink "SplitpointerModel" (158 : Nat) ({ cls := "SplitpointerModel$Disk", name := "place", desc := "(I)I" } : Jvm.MethodName)) ∈ lw_all := lw_g (lw_at lw_m8 118 rfl) rfl
theorem q1866 : (Jvm.Cond.static ({ cls := "SplitpointerModel", name := "turned", desc := "(I)I" } : Jvm.MethodName)) ∈ lw_all := lw_g (lw_at lw_m8 123 rfl) rfl
theorem q1867 : (Jvm.Cond.code ({ cls := "SplitpointerModel", name := "turned", desc := "(I)I" } : Jvm.MethodName) prog_15_method_8_code (3 : Nat) (Option.some Jvm.ClassFile.FieldType.int)) ∈ lw_all := lw_g (lw_at lw_m8 124 rfl) rfl
theorem q1868 : (Jvm.Cond.methodLink "SplitpointerModel" (161 : Nat) ({ cls := "SplitpointerModel$Disk", name := "all", desc := "()Ljava/util/ArrayList;" } : Jvm.MethodName)) ∈ lw_all := lw_g (lw_at lw_m8 125 rfl) rfl
theorem q1870 : (Jvm.Cond.instanceMethod ({ cls := "SplitpointerModel", name := "ask", desc := "(II)I" } : Jvm.MethodName)) ∈ lw_all := lw_g (lw_at lw_m8 127 rfl) rfl
theorem q1871 : (Jvm.Cond.selects "SplitpointerModel" ({ cls := "SplitpointerModel", name := "ask", desc := "(II)I" } : Jvm.MethodName) ({ cls := "SplitpointerModel", name := "ask", desc := "(II)I" } : Jvm.MethodName)) ∈ lw_all := lw_g (lw_at lw_m8 128 rfl) rfl
theorem q1872 : (Jvm.Cond.code ({ cls := "SplitpointerModel", name := "ask", desc := "(II)I" } : Jvm.MethodName) prog_15_method_30_code (8 : Nat) (Option.some Jvm.ClassFile.FieldType.int)) ∈ lw_all := lw_g (lw_at lw_m8 129 rfl) rfl
theorem q1873 : (Jvm.Cond.methodLink "SplitpointerModel" (172 : Nat) ({ cls := "SplitpointerModel$Disk", name := "hash", desc := "(I)I" } : Jvm.MethodName)) ∈ lw_all := lw_g (lw_at lw_m8 130 rfl) rfl
theorem q1874 : (Jvm.Cond.methodLink "SplitpointerModel" (175 : Nat) ({ cls := "SplitpointerModel", name := "address", desc := "(II)I" } : Jvm.MethodName)) ∈ lw_all := lw_g (lw_at lw_m8 131 rfl) rfl
theorem q1875 : (Jvm.Cond.methodLink "SplitpointerModel" (59 : Nat) ({ cls := "SplitpointerModel$Disk", name := "many", desc := "()I" } : Jvm.MethodName)) ∈ lw_all := lw_g (lw_at lw_m8 132 rfl) rfl
theorem q1876 : (Jvm.Cond.methodLink "SplitpointerModel" (178 : Nat) ({ cls := "SplitpointerModel", name := "goal", desc := "(III)I" } : Jvm.MethodName)) ∈ lw_all := lw_g (lw_at lw_m8 133 rfl) rfl
theorem q1877 : (Jvm.Cond.static ({ cls := "SplitpointerModel", name := "goal", desc := "(III)I" } : Jvm.MethodName)) ∈ lw_all := lw_g (lw_at lw_m8 134 rfl) rfl
theorem q1878 : (Jvm.Cond.code ({ cls := "SplitpointerModel", name := "goal", desc := "(III)I" } : Jvm.MethodName) prog_15_method_29_code (6 : Nat) (Option.some Jvm.ClassFile.FieldType.int)) ∈ lw_all := lw_g (lw_at lw_m8 135 rfl) rfl
theorem q1879 : (Jvm.Cond.methodLink "SplitpointerModel" (168 : Nat) ({ cls := "SplitpointerModel", name := "depth", desc := "(II)I" } : Jvm.MethodName)) ∈ lw_all := lw_g (lw_at lw_m8 136 rfl) rfl
theorem q1880 : (Jvm.Cond.static ({ cls := "SplitpointerModel", name := "depth", desc := "(II)I" } : Jvm.MethodName)) ∈ lw_all := lw_g (lw_at lw_m8 137 rfl) rfl
theorem q1881 : (Jvm.Cond.code ({ cls := "SplitpointerModel", name := "depth", desc := "(II)I" } : Jvm.MethodName) prog_15_method_7_code (3 : Nat) (Option.some Jvm.ClassFile.FieldType.int)) ∈ lw_all := lw_g (lw_at lw_m8 138 rfl) rfl
theorem q1882 : (Jvm.Cond.methodLink "SplitpointerModel" (184 : Nat) ({ cls := "java/lang/Math", name := "min", desc := "(II)I" } : Jvm.MethodName)) ∈ lw_all := lw_g (lw_at lw_m8 139 rfl) rfl
theorem q1884 : (Jvm.Cond.instanceMethod ({ cls := "SplitpointerModel", name := "flush", desc := "()I" } : Jvm.MethodName)) ∈ lw_all := lw_g (lw_at lw_m8 141 rfl) rfl
theorem q1885 : (Jvm.Cond.selects "SplitpointerModel" ({ cls := "SplitpointerModel", name := "flush", desc := "()I" } : Jvm.MethodName) ({ cls := "SplitpointerModel", name := "flush", desc := "()I" } : Jvm.MethodName)) ∈ lw_all := lw_g (lw_at lw_m8 142 rfl) rfl
theorem q1886 : (Jvm.Cond.code ({ cls := "SplitpointerModel", name := "flush", desc := "()I" } : Jvm.MethodName) prog_15_method_31_code (2 : Nat) (Option.some Jvm.ClassFile.FieldType.int)) ∈ lw_all := lw_g (lw_at lw_m8 143 rfl) rfl
theorem q1888 : (Jvm.Cond.instanceMethod ({ cls := "SplitpointerModel", name := "checkpoint", desc := "()I" } : Jvm.MethodName)) ∈ lw_all := lw_g (lw_at lw_m8 145 rfl) rfl
theorem q1889 : (Jvm.Cond.selects "SplitpointerModel" ({ cls := "SplitpointerModel", name := "checkpoint", desc := "()I" } : Jvm.MethodName) ({ cls := "SplitpointerModel", name := "checkpoint", desc := "()I" } : Jvm.MethodName)) ∈ lw_all := lw_g (lw_at lw_m8 146 rfl) rfl
theorem q1890 : (Jvm.Cond.code ({ cls := "SplitpointerModel", name := "checkpoint", desc := "()I" } : Jvm.MethodName) prog_15_method_32_code (2 : Nat) (Option.some Jvm.ClassFile.FieldType.int)) ∈ lw_all := lw_g (lw_at lw_m8 147 rfl) rfl
theorem q1892 : (Jvm.Cond.instanceMethod ({ cls := "SplitpointerModel", name := "crash", desc := "()I" } : Jvm.MethodName)) ∈ lw_all := lw_g (lw_at lw_m8 149 rfl) rfl
theorem q1893 : (Jvm.Cond.selects "SplitpointerModel" ({ cls := "SplitpointerModel", name := "crash", desc := "()I" } : Jvm.MethodName) ({ cls := "SplitpointerModel", name := "crash", desc := "()I" } : Jvm.MethodName)) ∈ lw_all := lw_g (lw_at lw_m8 150 rfl) rfl
theorem q1894 : (Jvm.Cond.code ({ cls := "SplitpointerModel", name := "crash", desc := "()I" } : Jvm.MethodName) prog_15_method_33_code (2 : Nat) (Option.some Jvm.ClassFile.FieldType.int)) ∈ lw_all := lw_g (lw_at lw_m8 151 rfl) rfl
theorem q1896 : (Jvm.Cond.instanceMethod ({ cls := "SplitpointerModel", name := "knock", desc := "()I" } : Jvm.MethodName)) ∈ lw_all := lw_g (lw_at lw_m8 153 rfl) rfl
theorem q1897 : (Jvm.Cond.selects "SplitpointerModel" ({ cls := "SplitpointerModel", name := "knock", desc := "()I" } : Jvm.MethodName) ({ cls := "SplitpointerModel", name := "knock", desc := "()I" } : Jvm.MethodName)) ∈ lw_all := lw_g (lw_at lw_m8 154 rfl) rfl
theorem q1898 : (Jvm.Cond.code ({ cls := "SplitpointerModel", name := "knock", desc := "()I" } : Jvm.MethodName) prog_15_method_34_code (1 : Nat) (Option.some Jvm.ClassFile.FieldType.int)) ∈ lw_all := lw_g (lw_at lw_m8 155 rfl) rfl
theorem q1900 : (Jvm.Cond.instanceMethod ({ cls := "SplitpointerModel", name := "get", desc := "(I)I" } : Jvm.MethodName)) ∈ lw_all := lw_g (lw_at lw_m8 157 rfl) rfl
theorem q1901 : (Jvm.Cond.selects "SplitpointerModel" ({ cls := "SplitpointerModel", name := "get", desc := "(I)I" } : Jvm.MethodName) ({ cls := "SplitpointerModel", name := "get", desc := "(I)I" } : Jvm.MethodName)) ∈ lw_all := lw_g (lw_at lw_m8 158 rfl) rfl
theorem q1902 : (Jvm.Cond.code ({ cls := "SplitpointerModel", name := "get", desc := "(I)I" } : Jvm.MethodName) prog_15_method_35_code (2 : Nat) (Option.some Jvm.ClassFile.FieldType.int)) ∈ lw_all := lw_g (lw_at lw_m8 159 rfl) rfl
theorem q1904 : (Jvm.Cond.instanceMethod ({ cls := "SplitpointerModel", name := "ofKey", desc := "(II)I" } : Jvm.MethodName)) ∈ lw_all := lw_g (lw_at lw_m8 161 rfl) rfl
theorem q1905 : (Jvm.Cond.selects "SplitpointerModel" ({ cls := "SplitpointerModel", name := "ofKey", desc := "(II)I" } : Jvm.MethodName) ({ cls := "SplitpointerModel", name := "ofKey", desc := "(II)I" } : Jvm.MethodName)) ∈ lw_all := lw_g (lw_at lw_m8 162 rfl) rfl
theorem q1906 : (Jvm.Cond.code ({ cls := "SplitpointerModel", name := "ofKey", desc := "(II)I" } : Jvm.MethodName) prog_15_method_37_code (3 : Nat) (Option.some Jvm.ClassFile.FieldType.int)) ∈ lw_all := lw_g (lw_at lw_m8 163 rfl) rfl
theorem q1907 : (Jvm.Cond.methodLink "SplitpointerModel" (204 : Nat) ({ cls := "SplitpointerModel", name := "keyTold", desc := "(II)I" } : Jvm.MethodName)) ∈ lw_all := lw_g (lw_at lw_m8 164 rfl) rfl
theorem q1908 : (Jvm.Cond.privateMethod ({ cls := "SplitpointerModel", name := "keyTold", desc := "(II)I" } : Jvm.MethodName)) ∈ lw_tbl := lw_at lw_m8 165 rfl
theorem q1909 : (Jvm.Cond.instanceMethod ({ cls := "SplitpointerModel", name := "keyTold", desc := "(II)I" } : Jvm.MethodName)) ∈ lw_all := lw_g (lw_at lw_m8 166 rfl) rfl
theorem q1910 : (Jvm.Cond.code ({ cls := "SplitpointerModel", name := "keyTold", desc := "(II)I" } : Jvm.MethodName) prog_15_method_36_code (7 : Nat) (Option.some Jvm.ClassFile.FieldType.int)) ∈ lw_all := lw_g (lw_at lw_m8 167 rfl) rfl
theorem q1911 : (Jvm.Cond.methodLink "SplitpointerModel" (195 : Nat) ({ cls := "SplitpointerModel", name := "turned", desc := "(I)I" } : Jvm.MethodName)) ∈ lw_all := lw_g (lw_at lw_m8 168 rfl) rfl
theorem q1912 : (Jvm.Cond.methodLink "SplitpointerModel" (198 : Nat) ({ cls := "java/util/ArrayList", name := "get", desc := "(I)Ljava/lang/Object;" } : Jvm.MethodName)) ∈ lw_all := lw_g (lw_at lw_m8 169 rfl) rfl
theorem q1913 : (Jvm.Cond.classLink "SplitpointerModel" (40 : Nat) "java/lang/Integer") ∈ lw_all := lw_g (lw_at lw_m8 170 rfl) rfl
theorem q1914 : (Jvm.Cond.methodLink "SplitpointerModel" (201 : Nat) ({ cls := "java/lang/Integer", name := "intValue", desc := "()I" } : Jvm.MethodName)) ∈ lw_all := lw_g (lw_at lw_m8 171 rfl) rfl
theorem q1916 : (Jvm.Cond.instanceMethod ({ cls := "SplitpointerModel", name := "ofFile", desc := "(I)I" } : Jvm.MethodName)) ∈ lw_all := lw_g (lw_at lw_m8 173 rfl) rfl
theorem q1917 : (Jvm.Cond.selects "SplitpointerModel" ({ cls := "SplitpointerModel", name := "ofFile", desc := "(I)I" } : Jvm.MethodName) ({ cls := "SplitpointerModel", name := "ofFile", desc := "(I)I" } : Jvm.MethodName)) ∈ lw_all := lw_g (lw_at lw_m8 174 rfl) rfl
theorem q1918 : (Jvm.Cond.code ({ cls := "SplitpointerModel", name := "ofFile", desc := "(I)I" } : Jvm.MethodName) prog_15_method_39_code (2 : Nat) (Option.some Jvm.ClassFile.FieldType.int)) ∈ lw_all := lw_g (lw_at lw_m8 175 rfl) rfl
theorem q1919 : (Jvm.Cond.methodLink "SplitpointerModel" (239 : Nat) ({ cls := "SplitpointerModel", name := "fileTold", desc := "(I)I" } : Jvm.MethodName)) ∈ lw_all := lw_g (lw_at lw_m8 176 rfl) rfl
theorem q1920 : (Jvm.Cond.privateMethod ({ cls := "SplitpointerModel", name := "fileTold", desc := "(I)I" } : Jvm.MethodName)) ∈ lw_tbl := lw_at lw_m8 177 rfl
theorem q1921 : (Jvm.Cond.instanceMethod ({ cls := "SplitpointerModel", name := "fileTold", desc := "(I)I" } : Jvm.MethodName)) ∈ lw_all := lw_g (lw_at lw_m8 178 rfl) rfl
theorem q1922 : (Jvm.Cond.code ({ cls := "SplitpointerModel", name := "fileTold", desc := "(I)I" } : Jvm.MethodName) prog_15_method_38_code (4 : Nat) (Option.some Jvm.ClassFile.FieldType.int)) ∈ lw_all := lw_g (lw_at lw_m8 179 rfl) rfl
theorem q1923 : (Jvm.Cond.methodLink "SplitpointerModel" (207 : Nat) ({ cls := "SplitpointerModel", name := "level", desc := "(I)I" } : Jvm.MethodName)) ∈ lw_all := lw_g (lw_at lw_m8 180 rfl) rfl
theorem q1924 : (Jvm.Cond.static ({ cls := "SplitpointerModel", name := "level", desc := "(I)I" } : Jvm.MethodName)) ∈ lw_all := lw_g (lw_at lw_m8 181 rfl) rfl
theorem q1925 : (Jvm.Cond.code ({ cls := "SplitpointerModel", name := "level", desc := "(I)I" } : Jvm.MethodName) prog_15_method_4_code (1 : Nat) (Option.some Jvm.ClassFile.FieldType.int)) ∈ lw_all := lw_g (lw_at lw_m8 182 rfl) rfl
theorem q1926 : (Jvm.Cond.methodLink "SplitpointerModel" (45 : Nat) ({ cls := "java/lang/Integer", name := "numberOfTrailingZeros", desc := "(I)I" } : Jvm.MethodName)) ∈ lw_all := lw_g (lw_at lw_m8 183 rfl) rfl
theorem q1929 : (Jvm.Cond.methodLink "SplitpointerModel" (210 : Nat) ({ cls := "SplitpointerModel", name := "pointer", desc := "(I)I" } : Jvm.MethodName)) ∈ lw_all := lw_g (lw_at lw_m8 186 rfl) rfl
theorem q1930 : (Jvm.Cond.methodLink "SplitpointerModel" (213 : Nat) ({ cls := "SplitpointerModel$Disk", name := "load", desc := "()I" } : Jvm.MethodName)) ∈ lw_all := lw_g (lw_at lw_m8 187 rfl) rfl
theorem q1931 : (Jvm.Cond.methodLink "SplitpointerModel" (228 : Nat) ({ cls := "SplitpointerModel$Disk", name := "pages", desc := "()I" } : Jvm.MethodName)) ∈ lw_all := lw_g (lw_at lw_m8 188 rfl) rfl
theorem q1932 : (Jvm.Cond.methodLink "SplitpointerModel" (230 : Nat) ({ cls := "SplitpointerModel$Disk", name := "longest", desc := "()I" } : Jvm.MethodName)) ∈ lw_all := lw_g (lw_at lw_m8 189 rfl) rfl
theorem q1938 : (Jvm.Cond.instanceMethod ({ cls := "SplitpointerModel", name := "ofBucket", desc := "(II)I" } : Jvm.MethodName)) ∈ lw_all := lw_g (lw_at lw_m8 195 rfl) rfl
theorem q1939 : (Jvm.Cond.selects "SplitpointerModel" ({ cls := "SplitpointerModel", name := "ofBucket", desc := "(II)I" } : Jvm.MethodName) ({ cls := "SplitpointerModel", name := "ofBucket", desc := "(II)I" } : Jvm.MethodName)) ∈ lw_all := lw_g (lw_at lw_m8 196 rfl) rfl
theorem q1940 : (Jvm.Cond.code ({ cls := "SplitpointerModel", name := "ofBucket", desc := "(II)I" } : Jvm.MethodName) prog_15_method_41_code (3 : Nat) (Option.some Jvm.ClassFile.FieldType.int)) ∈ lw_all := lw_g (lw_at lw_m8 197 rfl) rfl
theorem q1941 : (Jvm.Cond.methodLink "SplitpointerModel" (251 : Nat) ({ cls := "SplitpointerModel", name := "isNoBucket", desc := "(I)Z" } : Jvm.MethodName)) ∈ lw_all := lw_g (lw_at lw_m8 198 rfl) rfl
theorem q1942 : (Jvm.Cond.privateMethod ({ cls := "SplitpointerModel", name := "isNoBucket", desc := "(I)Z" } : Jvm.MethodName)) ∈ lw_tbl := lw_at lw_m8 199 rfl
theorem q1943 : (Jvm.Cond.instanceMethod ({ cls := "SplitpointerModel", name := "isNoBucket", desc := "(I)Z" } : Jvm.MethodName)) ∈ lw_all := lw_g (lw_at lw_m8 200 rfl) rfl
theorem q1944 : (Jvm.Cond.code ({ cls := "SplitpointerModel", name := "isNoBucket", desc := "(I)Z" } : Jvm.MethodName) prog_15_method_16_code (2 : Nat) (Option.some Jvm.ClassFile.FieldType.boolean)) ∈ lw_all := lw_g (lw_at lw_m8 201 rfl) rfl
theorem q1945 : (Jvm.Cond.methodLink "SplitpointerModel" (254 : Nat) ({ cls := "SplitpointerModel", name := "bucketTold", desc := "(II)I" } : Jvm.MethodName)) ∈ lw_all := lw_g (lw_at lw_m8 202 rfl) rfl
theorem q1946 : (Jvm.Cond.privateMethod ({ cls := "SplitpointerModel", name := "bucketTold", desc := "(II)I" } : Jvm.MethodName)) ∈ lw_tbl := lw_at lw_m8 203 rfl
theorem q1947 : (Jvm.Cond.instanceMethod ({ cls := "SplitpointerModel", name := "bucketTold", desc := "(II)I" } : Jvm.MethodName)) ∈ lw_all := lw_g (lw_at lw_m8 204 rfl) rfl
theorem q1948 : (Jvm.Cond.code ({ cls := "SplitpointerModel", name := "bucketTold", desc := "(II)I" } : Jvm.MethodName) prog_15_method_40_code (5 : Nat) (Option.some Jvm.ClassFile.FieldType.int)) ∈ lw_all := lw_g (lw_at lw_m8 205 rfl) rfl
theorem q1949 : (Jvm.Cond.classLink "SplitpointerModel" (135 : Nat) "SplitpointerModel$Bucket") ∈ lw_all := lw_g (lw_at lw_m8 206 rfl) rfl
theorem q1951 : (Jvm.Cond.instanceMethod ({ cls := "SplitpointerModel", name := "chain", desc := "(I)Ljava/lang/String;" } : Jvm.MethodName)) ∈ lw_all := lw_g (lw_at lw_m8 208 rfl) rfl
theorem q1952 : (Jvm.Cond.selects "SplitpointerModel" ({ cls := "SplitpointerModel", name := "chain", desc := "(I)Ljava/lang/String;" } : Jvm.MethodName) ({ cls := "SplitpointerModel", name := "chain", desc := "(I)Ljava/lang/String;" } : Jvm.MethodName)) ∈ lw_all := lw_g (lw_at lw_m8 209 rfl) rfl
theorem q1953 : (Jvm.Cond.code ({ cls := "SplitpointerModel", name := "chain", desc := "(I)Ljava/lang/String;" } : Jvm.MethodName) prog_15_method_43_code (2 : Nat) (Option.some (Jvm.ClassFile.FieldType.object "java/lang/String"))) ∈ lw_all := lw_g (lw_at lw_m8 210 rfl) rfl
theorem q1954 : (Jvm.Cond.stringRef "SplitpointerModel" (277 : Nat) "") ∈ lw_tbl := lw_at lw_m8 211 rfl
theorem q1955 : (Jvm.Cond.methodLink "SplitpointerModel" (279 : Nat) ({ cls := "SplitpointerModel", name := "chainTold", desc := "(I)Ljava/lang/String;" } : Jvm.MethodName)) ∈ lw_all := lw_g (lw_at lw_m8 212 rfl) rfl
theorem q1956 : (Jvm.Cond.privateMethod ({ cls := "SplitpointerModel", name := "chainTold", desc := "(I)Ljava/lang/String;" } : Jvm.MethodName)) ∈ lw_tbl := lw_at lw_m8 213 rfl
theorem q1957 : (Jvm.Cond.instanceMethod ({ cls := "SplitpointerModel", name := "chainTold", desc := "(I)Ljava/lang/String;" } : Jvm.MethodName)) ∈ lw_all := lw_g (lw_at lw_m8 214 rfl) rfl
theorem q1958 : (Jvm.Cond.code ({ cls := "SplitpointerModel", name := "chainTold", desc := "(I)Ljava/lang/String;" } : Jvm.MethodName) prog_15_method_42_code (6 : Nat) (Option.some (Jvm.ClassFile.FieldType.object "java/lang/String"))) ∈ lw_all := lw_g (lw_at lw_m8 215 rfl) rfl
theorem q1959 : (Jvm.Cond.classLink "SplitpointerModel" (257 : Nat) "java/lang/StringBuilder") ∈ lw_all := lw_g (lw_at lw_m8 216 rfl) rfl
theorem q1960 : (Jvm.Cond.methodLink "SplitpointerModel" (259 : Nat) ({ cls := "java/lang/StringBuilder", name := "<init>", desc := "()V" } : Jvm.MethodName)) ∈ lw_all := lw_g (lw_at lw_m8 217 rfl) rfl
theorem q1961 : (Jvm.Cond.stringRef "SplitpointerModel" (260 : Nat) "|") ∈ lw_tbl := lw_at lw_m8 218 rfl
theorem q1962 : (Jvm.Cond.stringRef "SplitpointerModel" (262 : Nat) " ") ∈ lw_tbl := lw_at lw_m8 219 rfl
theorem q1963 : (Jvm.Cond.methodLink "SplitpointerModel" (264 : Nat) ({ cls := "java/lang/StringBuilder", name := "append", desc := "(Ljava/lang/String;)Ljava/lang/StringBuilder;" } : Jvm.MethodName)) ∈ lw_all := lw_g (lw_at lw_m8 220 rfl) rfl
theorem q1964 : (Jvm.Cond.methodLink "SplitpointerModel" (268 : Nat) ({ cls := "java/lang/StringBuilder", name := "append", desc := "(I)Ljava/lang/StringBuilder;" } : Jvm.MethodName)) ∈ lw_all := lw_g (lw_at lw_m8 221 rfl) rfl
theorem q1965 : (Jvm.Cond.stringRef "SplitpointerModel" (271 : Nat) "-") ∈ lw_tbl := lw_at lw_m8 222 rfl
theorem q1966 : (Jvm.Cond.methodLink "SplitpointerModel" (273 : Nat) ({ cls := "java/lang/StringBuilder", name := "toString", desc := "()Ljava/lang/String;" } : Jvm.MethodName)) ∈ lw_all := lw_g (lw_at lw_m8 223 rfl) rfl
theorem q1968 : (Jvm.Cond.instanceMethod ({ cls := "SplitpointerModel", name := "ofPage", desc := "(II)I" } : Jvm.MethodName)) ∈ lw_all := lw_g (lw_at lw_m8 225 rfl) rfl
theorem q1969 : (Jvm.Cond.selects "SplitpointerModel" ({ cls := "SplitpointerModel", name := "ofPage", desc := "(II)I" } : Jvm.MethodName) ({ cls := "SplitpointerModel", name := "ofPage", desc := "(II)I" } : Jvm.MethodName)) ∈ lw_all := lw_g (lw_at lw_m8 226 rfl) rfl
theorem q1970 : (Jvm.Cond.code ({ cls := "SplitpointerModel", name := "ofPage", desc := "(II)I" } : Jvm.MethodName) prog_15_method_45_code (3 : Nat) (Option.some Jvm.ClassFile.FieldType.int)) ∈ lw_all := lw_g (lw_at lw_m8 227 rfl) rfl
theorem q1971 : (Jvm.Cond.methodLink "SplitpointerModel" (291 : Nat) ({ cls := "SplitpointerModel", name := "pageTold", desc := "(II)I" } : Jvm.MethodName)) ∈ lw_all := lw_g (lw_at lw_m8 228 rfl) rfl
theorem q1972 : (Jvm.Cond.privateMethod ({ cls := "SplitpointerModel", name := "pageTold", desc := "(II)I" } : Jvm.MethodName)) ∈ lw_tbl := lw_at lw_m8 229 rfl
theorem q1973 : (Jvm.Cond.instanceMethod ({ cls := "SplitpointerModel", name := "pageTold", desc := "(II)I" } : Jvm.MethodName)) ∈ lw_all := lw_g (lw_at lw_m8 230 rfl) rfl
theorem q1974 : (Jvm.Cond.code ({ cls := "SplitpointerModel", name := "pageTold", desc := "(II)I" } : Jvm.MethodName) prog_15_method_44_code (7 : Nat) (Option.some Jvm.ClassFile.FieldType.int)) ∈ lw_all := lw_g (lw_at lw_m8 231 rfl) rfl
theorem q1975 : (Jvm.Cond.methodLink "SplitpointerModel" (283 : Nat) ({ cls := "java/lang/Integer", name := "valueOf", desc := "(I)Ljava/lang/Integer;" } : Jvm.MethodName)) ∈ lw_all := lw_g (lw_at lw_m8 232 rfl) rfl
theorem q1976 : (Jvm.Cond.methodLink "SplitpointerModel" (287 : Nat) ({ cls := "java/util/ArrayList", name := "indexOf", desc := "(Ljava/lang/Object;)I" } : Jvm.MethodName)) ∈ lw_all := lw_g (lw_at lw_m8 233 rfl) rfl
theorem q1978 : (Jvm.Cond.instanceMethod ({ cls := "SplitpointerModel", name := "mark", desc := "(I)I" } : Jvm.MethodName)) ∈ lw_all := lw_g (lw_at lw_m8 235 rfl) rfl
theorem q1979 : (Jvm.Cond.selects "SplitpointerModel" ({ cls := "SplitpointerModel", name := "mark", desc := "(I)I" } : Jvm.MethodName) ({ cls := "SplitpointerModel", name := "mark", desc := "(I)I" } : Jvm.MethodName)) ∈ lw_all := lw_g (lw_at lw_m8 236 rfl) rfl
theorem q1980 : (Jvm.Cond.code ({ cls := "SplitpointerModel", name := "mark", desc := "(I)I" } : Jvm.MethodName) prog_15_method_46_code (2 : Nat) (Option.some Jvm.ClassFile.FieldType.int)) ∈ lw_all := lw_g (lw_at lw_m8 237 rfl) rfl
theorem q1982 : (Jvm.Cond.instanceMethod ({ cls := "SplitpointerModel", name := "ofClient", desc := "(II)I" } : Jvm.MethodName)) ∈ lw_all := lw_g (lw_at lw_m8 239 rfl) rfl
theorem q1983 : (Jvm.Cond.selects "SplitpointerModel" ({ cls := "SplitpointerModel", name := "ofClient", desc := "(II)I" } : Jvm.MethodName) ({ cls := "SplitpointerModel", name := "ofClient", desc := "(II)I" } : Jvm.MethodName)) ∈ lw_all := lw_g (lw_at lw_m9 0 rfl) rfl
theorem q1984 : (Jvm.Cond.code ({ cls := "SplitpointerModel", name := "ofClient", desc := "(II)I" } : Jvm.MethodName) prog_15_method_48_code (3 : Nat) (Option.some Jvm.ClassFile.FieldType.int)) ∈ lw_all := lw_g (lw_at lw_m9 1 rfl) rfl
theorem q1985 : (Jvm.Cond.methodLink "SplitpointerModel" (294 : Nat) ({ cls := "SplitpointerModel", name := "clientTold", desc := "(II)I" } : Jvm.MethodName)) ∈ lw_all := lw_g (lw_at lw_m9 2 rfl) rfl
theorem q1986 : (Jvm.Cond.privateMethod ({ cls := "SplitpointerModel", name := "clientTold", desc := "(II)I" } : Jvm.MethodName)) ∈ lw_tbl := lw_at lw_m9 3 rfl
theorem q1987 : (Jvm.Cond.instanceMethod ({ cls := "SplitpointerModel", name := "clientTold", desc := "(II)I" } : Jvm.MethodName)) ∈ lw_all := lw_g (lw_at lw_m9 4 rfl) rfl
theorem q1988 : (Jvm.Cond.code ({ cls := "SplitpointerModel", name := "clientTold", desc := "(II)I" } : Jvm.MethodName) prog_15_method_47_code (4 : Nat) (Option.some Jvm.ClassFile.FieldType.int)) ∈ lw_all := lw_g (lw_at lw_m9 5 rfl) rfl
theorem q1990 : (Jvm.Cond.instanceMethod ({ cls := "SplitpointerModel", name := "seek", desc := "(ZII)I" } : Jvm.MethodName)) ∈ lw_all := lw_g (lw_at lw_m9 7 rfl) rfl
theorem q1991 : (Jvm.Cond.selects "SplitpointerModel" ({ cls := "SplitpointerModel", name := "seek", desc := "(ZII)I" } : Jvm.MethodName) ({ cls := "SplitpointerModel", name := "seek", desc := "(ZII)I" } : Jvm.MethodName)) ∈ lw_all := lw_g (lw_at lw_m9 8 rfl) rfl
theorem q1992 : (Jvm.Cond.code ({ cls := "SplitpointerModel", name := "seek", desc := "(ZII)I" } : Jvm.MethodName) prog_15_method_50_code (4 : Nat) (Option.some Jvm.ClassFile.FieldType.int)) ∈ lw_all := lw_g (lw_at lw_m9 9 rfl) rfl
theorem q1993 : (Jvm.Cond.methodLink "SplitpointerModel" (301 : Nat) ({ cls := "SplitpointerModel", name := "seekTold", desc := "(ZII)I" } : Jvm.MethodName)) ∈ lw_all := lw_g (lw_at lw_m9 10 rfl) rfl
theorem q1994 : (Jvm.Cond.privateMethod ({ cls := "SplitpointerModel", name := "seekTold", desc := "(ZII)I" } : Jvm.MethodName)) ∈ lw_tbl := lw_at lw_m9 11 rfl
theorem q1995 : (Jvm.Cond.instanceMethod ({ cls := "SplitpointerModel", name := "seekTold", desc := "(ZII)I" } : Jvm.MethodName)) ∈ lw_all := lw_g (lw_at lw_m9 12 rfl) rfl
theorem q1996 : (Jvm.Cond.code ({ cls := "SplitpointerModel", name := "seekTold", desc := "(ZII)I" } : Jvm.MethodName) prog_15_method_49_code (9 : Nat) (Option.some Jvm.ClassFile.FieldType.int)) ∈ lw_all := lw_g (lw_at lw_m9 13 rfl) rfl
theorem q1997 : (Jvm.Cond.methodLink "SplitpointerModel" (297 : Nat) ({ cls := "SplitpointerModel", name := "field", desc := "(IZ)I" } : Jvm.MethodName)) ∈ lw_all := lw_g (lw_at lw_m9 14 rfl) rfl
theorem q1998 : (Jvm.Cond.static ({ cls := "SplitpointerModel", name := "field", desc := "(IZ)I" } : Jvm.MethodName)) ∈ lw_all := lw_g (lw_at lw_m9 15 rfl) rfl
theorem q1999 : (Jvm.Cond.code ({ cls := "SplitpointerModel", name := "field", desc := "(IZ)I" } : Jvm.MethodName) prog_15_method_10_code (2 : Nat) (Option.some Jvm.ClassFile.FieldType.int)) ∈ lw_all := lw_g (lw_at lw_m9 16 rfl) rfl
theorem q2001 : (Jvm.Cond.instanceMethod ({ cls := "SplitpointerModel", name := "visits", desc := "(ZI)I" } : Jvm.MethodName)) ∈ lw_all := lw_g (lw_at lw_m9 18 rfl) rfl
theorem q2002 : (Jvm.Cond.selects "SplitpointerModel" ({ cls := "SplitpointerModel", name := "visits", desc := "(ZI)I" } : Jvm.MethodName) ({ cls := "SplitpointerModel", name := "visits", desc := "(ZI)I" } : Jvm.MethodName)) ∈ lw_all := lw_g (lw_at lw_m9 19 rfl) rfl
theorem q2003 : (Jvm.Cond.code ({ cls := "SplitpointerModel", name := "visits", desc := "(ZI)I" } : Jvm.MethodName) prog_15_method_51_code (3 : Nat) (Option.some Jvm.ClassFile.FieldType.int)) ∈ lw_all := lw_g (lw_at lw_m9 20 rfl) rfl
theorem q2004 : (Jvm.Cond.methodLink "SplitpointerModel" (305 : Nat) ({ cls := "SplitpointerModel$Disk", name := "visits", desc := "(ZI)I" } : Jvm.MethodName)) ∈ lw_all := lw_g (lw_at lw_m9 21 rfl) rfl
theorem q2011 : (Jvm.Cond.instanceMethod ({ cls := "SplitpointerModel", name := "would", desc := "(III)I" } : Jvm.MethodName)) ∈ lw_all := lw_g (lw_at lw_m9 28 rfl) rfl
theorem q2012 : (Jvm.Cond.selects "SplitpointerModel" ({ cls := "SplitpointerModel", name := "would", desc := "(III)I" } : Jvm.MethodName) ({ cls := "SplitpointerModel", name := "would", desc := "(III)I" } : Jvm.MethodName)) ∈ lw_all := lw_g (lw_at lw_m9 29 rfl) rfl
theorem q2013 : (Jvm.Cond.code ({ cls := "SplitpointerModel", name := "would", desc := "(III)I" } : Jvm.MethodName) prog_15_method_53_code (4 : Nat) (Option.some Jvm.ClassFile.FieldType.int)) ∈ lw_all := lw_g (lw_at lw_m9 30 rfl) rfl
theorem q2014 : (Jvm.Cond.methodLink "SplitpointerModel" (309 : Nat) ({ cls := "SplitpointerModel", name := "wouldTold", desc := "(III)I" } : Jvm.MethodName)) ∈ lw_all := lw_g (lw_at lw_m9 31 rfl) rfl
theorem q2015 : (Jvm.Cond.privateMethod ({ cls := "SplitpointerModel", name := "wouldTold", desc := "(III)I" } : Jvm.MethodName)) ∈ lw_tbl := lw_at lw_m9 32 rfl
theorem q2016 : (Jvm.Cond.instanceMethod ({ cls := "SplitpointerModel", name := "wouldTold", desc := "(III)I" } : Jvm.MethodName)) ∈ lw_all := lw_g (lw_at lw_m9 33 rfl) rfl
theorem q2017 : (Jvm.Cond.code ({ cls := "SplitpointerModel", name := "wouldTold", desc := "(III)I" } : Jvm.MethodName) prog_15_method_52_code (6 : Nat) (Option.some Jvm.ClassFile.FieldType.int)) ∈ lw_all := lw_g (lw_at lw_m9 34 rfl) rfl
theorem q2019 : (Jvm.Cond.instanceMethod ({ cls := "SplitpointerModel", name := "crashed", desc := "(I)I" } : Jvm.MethodName)) ∈ lw_all := lw_g (lw_at lw_m9 36 rfl) rfl
theorem q2020 : (Jvm.Cond.selects "SplitpointerModel" ({ cls := "SplitpointerModel", name := "crashed", desc := "(I)I" } : Jvm.MethodName) ({ cls := "SplitpointerModel", name := "crashed", desc := "(I)I" } : Jvm.MethodName)) ∈ lw_all := lw_g (lw_at lw_m9 37 rfl) rfl
theorem q2021 : (Jvm.Cond.code ({ cls := "SplitpointerModel", name := "crashed", desc := "(I)I" } : Jvm.MethodName) prog_15_method_55_code (2 : Nat) (Option.some Jvm.ClassFile.FieldType.int)) ∈ lw_all := lw_g (lw_at lw_m9 38 rfl) rfl
theorem q2022 : (Jvm.Cond.methodLink "SplitpointerModel" (312 : Nat) ({ cls := "SplitpointerModel", name := "crashedTold", desc := "(I)I" } : Jvm.MethodName)) ∈ lw_all := lw_g (lw_at lw_m9 39 rfl) rfl
theorem q2023 : (Jvm.Cond.privateMethod ({ cls := "SplitpointerModel", name := "crashedTold", desc := "(I)I" } : Jvm.MethodName)) ∈ lw_tbl := lw_at lw_m9 40 rfl
theorem q2024 : (Jvm.Cond.instanceMethod ({ cls := "SplitpointerModel", name := "crashedTold", desc := "(I)I" } : Jvm.MethodName)) ∈ lw_all := lw_g (lw_at lw_m9 41 rfl) rfl
theorem q2025 : (Jvm.Cond.code ({ cls := "SplitpointerModel", name := "crashedTold", desc := "(I)I" } : Jvm.MethodName) prog_15_method_54_code (2 : Nat) (Option.some Jvm.ClassFile.FieldType.int)) ∈ lw_all := lw_g (lw_at lw_m9 42 rfl) rfl
theorem q2027 : (Jvm.Cond.instanceMethod ({ cls := "SplitpointerModel", name := "isSound", desc := "()Z" } : Jvm.MethodName)) ∈ lw_all := lw_g (lw_at lw_m9 44 rfl) rfl
theorem q2028 : (Jvm.Cond.selects "SplitpointerModel" ({ cls := "SplitpointerModel", name := "isSound", desc := "()Z" } : Jvm.MethodName) ({ cls := "SplitpointerModel", name := "isSound", desc := "()Z" } : Jvm.MethodName)) ∈ lw_all := lw_g (lw_at lw_m9 45 rfl) rfl
theorem q2029 : (Jvm.Cond.code ({ cls := "SplitpointerModel", name := "isSound", desc := "()Z" } : Jvm.MethodName) prog_15_method_58_code (1 : Nat) (Option.some Jvm.ClassFile.FieldType.boolean)) ∈ lw_all := lw_g (lw_at lw_m9 46 rfl) rfl
theorem q2030 : (Jvm.Cond.methodLink "SplitpointerModel" (321 : Nat) ({ cls := "SplitpointerModel", name := "isWhole", desc := "()Z" } : Jvm.MethodName)) ∈ lw_all := lw_g (lw_at lw_m9 47 rfl) rfl
theorem q2031 : (Jvm.Cond.privateMethod ({ cls := "SplitpointerModel", name := "isWhole", desc := "()Z" } : Jvm.MethodName)) ∈ lw_tbl := lw_at lw_m9 48 rfl
theorem q2032 : (Jvm.Cond.instanceMethod ({ cls := "SplitpointerModel", name := "isWhole", desc := "()Z" } : Jvm.MethodName)) ∈ lw_all := lw_g (lw_at lw_m9 49 rfl) rfl
theorem q2033 : (Jvm.Cond.code ({ cls := "SplitpointerModel", name := "isWhole", desc := "()Z" } : Jvm.MethodName) prog_15_method_57_code (6 : Nat) (Option.some Jvm.ClassFile.FieldType.boolean)) ∈ lw_all := lw_g (lw_at lw_m9 50 rfl) rfl
theorem q2034 : (Jvm.Cond.methodLink "SplitpointerModel" (315 : Nat) ({ cls := "java/lang/Math", name := "max", desc := "(II)I" } : Jvm.MethodName)) ∈ lw_all := lw_g (lw_at lw_m9 51 rfl) rfl
theorem q2035 : (Jvm.Cond.methodLink "SplitpointerModel" (318 : Nat) ({ cls := "SplitpointerModel", name := "areRecords", desc := "()Z" } : Jvm.MethodName)) ∈ lw_all := lw_g (lw_at lw_m9 52 rfl) rfl
theorem q2036 : (Jvm.Cond.privateMethod ({ cls := "SplitpointerModel", name := "areRecords", desc := "()Z" } : Jvm.MethodName)) ∈ lw_tbl := lw_at lw_m9 53 rfl
theorem q2037 : (Jvm.Cond.instanceMethod ({ cls := "SplitpointerModel", name := "areRecords", desc := "()Z" } : Jvm.MethodName)) ∈ lw_all := lw_g (lw_at lw_m9 54 rfl) rfl
theorem q2038 : (Jvm.Cond.code ({ cls := "SplitpointerModel", name := "areRecords", desc := "()Z" } : Jvm.MethodName) prog_15_method_56_code (4 : Nat) (Option.some Jvm.ClassFile.FieldType.boolean)) ∈ lw_all := lw_g (lw_at lw_m9 55 rfl) rfl
theorem q2040 : (Jvm.Cond.instanceMethod ({ cls := "SplitpointerModel", name := "digest", desc := "()J" } : Jvm.MethodName)) ∈ lw_all := lw_g (lw_at lw_m9 57 rfl) rfl
theorem q2041 : (Jvm.Cond.selects "SplitpointerModel" ({ cls := "SplitpointerModel", name := "digest", desc := "()J" } : Jvm.MethodName) ({ cls := "SplitpointerModel", name := "digest", desc := "()J" } : Jvm.MethodName)) ∈ lw_all := lw_g (lw_at lw_m9 58 rfl) rfl
theorem q2042 : (Jvm.Cond.code ({ cls := "SplitpointerModel", name := "digest", desc := "()J" } : Jvm.MethodName) prog_15_method_60_code (7 : Nat) (Option.some Jvm.ClassFile.FieldType.long)) ∈ lw_all := lw_g (lw_at lw_m9 59 rfl) rfl
theorem q2043 : (Jvm.Cond.constantLong "SplitpointerModel" (326 : Nat) (7307 : Int64)) ∈ lw_all := lw_g (lw_at lw_m9 60 rfl) rfl
theorem q2044 : (Jvm.Cond.methodLink "SplitpointerModel" (328 : Nat) ({ cls := "SplitpointerModel", name := "add", desc := "(JJ)J" } : Jvm.MethodName)) ∈ lw_all := lw_g (lw_at lw_m9 61 rfl) rfl
theorem q2045 : (Jvm.Cond.static ({ cls := "SplitpointerModel", name := "add", desc := "(JJ)J" } : Jvm.MethodName)) ∈ lw_all := lw_g (lw_at lw_m9 62 rfl) rfl
theorem q2046 : (Jvm.Cond.code ({ cls := "SplitpointerModel", name := "add", desc := "(JJ)J" } : Jvm.MethodName) prog_15_method_59_code (4 : Nat) (Option.some Jvm.ClassFile.FieldType.long)) ∈ lw_all := lw_g (lw_at lw_m9 63 rfl) rfl
theorem q2047 : (Jvm.Cond.constantLong "SplitpointerModel" (324 : Nat) (31 : Int64)) ∈ lw_all := lw_g (lw_at lw_m9 64 rfl) rfl
theorem q2048 : (Jvm.Cond.methodLink "SplitpointerModel" (331 : Nat) ({ cls := "java/lang/String", name := "length", desc := "()I" } : Jvm.MethodName)) ∈ lw_all := lw_g (lw_at lw_m9 65 rfl) rfl
theorem q2069 : (Jvm.Cond.castable "SplitpointerModel" "java/lang/Object") ∈ lw_tbl := lw_at lw_m9 86 rfl
theorem in_X7 : ∀ w ∈ wsX70, w ∈ lw_all := lw_in wsX70 [1610, 1612, 1614, 1616, 1618, 1620, 1622, 1624, 1626, 1628, 1630, 1632, 1634] (by decide +kernel) (by decide +kernel)
