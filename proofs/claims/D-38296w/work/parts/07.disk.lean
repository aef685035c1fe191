/-! SplitpointerModel$Disk -/
set_option maxRecDepth 100000
def RX8 : String := "SplitpointerModel$Disk"
def TX8 : u_T := fun k => match k with
  | 0 => ("SplitpointerModel$Disk", "cap", "I", true)
  | 1 => ("SplitpointerModel$Disk", "lower", "I", false)
  | 2 => ("SplitpointerModel$Disk", "upper", "I", false)
  | 3 => ("SplitpointerModel$Disk", "choice", "I", false)
  | 4 => ("SplitpointerModel$Disk", "seed", "I", false)
  | 5 => ("SplitpointerModel$Disk", "splits", "I", false)
  | 6 => ("SplitpointerModel$Disk", "merges", "I", false)
  | _ => ("SplitpointerModel$Disk", "buckets", "Ljava/util/ArrayList;", true)
def tyX8 : Nat → FieldType := fun k => match k with
  | 0 => .int
  | 1 => .int
  | 2 => .int
  | 3 => .int
  | 4 => .int
  | 5 => .int
  | 6 => .int
  | _ => .object "java/util/ArrayList"
abbrev wsX80 : List Cond := u_ws RX8 TX8 8
theorem nmX8 : ∀ a, a < 8 → ∀ b, b < 8 → a ≠ b → (TX8 a).2.1 ≠ (TX8 b).2.1 := by decide +kernel
theorem tyX8_ok : ∀ k, k < 8 → parseFieldDescriptor (TX8 k).2.2.1 = some (tyX8 k) := by decide +kernel
abbrev cX8_init : ByteArray := prog_17_method_1_code
def yX8_init : MethodName := ⟨RX8, "<init>", "(I)V"⟩
def dkwX8_init_1 : List UInt8 := [187, 0, 21, 89, 183, 0, 23, 181, 0, 24, 42, 27, 181, 0, 28, 42, 182, 0, 31, 42, 182, 0, 31, 177]
abbrev dktX8_init_1 : List UInt8 := dkwX8_init_1 ++ []
def dkwX8_init_0 : List UInt8 := [42, 183, 0, 3, 42, 16, 40, 181, 0, 9, 42, 16, 80, 181, 0, 15, 42, 17, 2, 170, 181, 0, 18, 42]
abbrev dktX8_init_0 : List UInt8 := dkwX8_init_0 ++ dktX8_init_1
theorem dksX8_init_0 : cX8_init.data.toList.drop 0 = dktX8_init_0 := by decide +kernel
theorem dksX8_init_1 : cX8_init.data.toList.drop 24 = dktX8_init_1 := dk_seg dksX8_init_0 24 rfl rfl
theorem dX8_init_0 : decode cX8_init 0 = .ok (.aload_n 0, 1) := dk_42 (dk_at dksX8_init_0 0 rfl rfl)
theorem dX8_init_1 : decode cX8_init 1 = .ok (.invokespecial 3, 3) := dk_183 0 3 (dk_at dksX8_init_0 1 rfl rfl)
theorem dX8_init_4 : decode cX8_init 4 = .ok (.aload_n 0, 1) := dk_42 (dk_at dksX8_init_0 4 rfl rfl)
theorem dX8_init_5 : decode cX8_init 5 = .ok (.bipush 40, 2) := dk_16 40 (dk_at dksX8_init_0 5 rfl rfl)
theorem dX8_init_7 : decode cX8_init 7 = .ok (.putfield 9, 3) := dk_181 0 9 (dk_at dksX8_init_0 7 rfl rfl)
theorem dX8_init_10 : decode cX8_init 10 = .ok (.aload_n 0, 1) := dk_42 (dk_at dksX8_init_0 10 rfl rfl)
theorem dX8_init_11 : decode cX8_init 11 = .ok (.bipush 80, 2) := dk_16 80 (dk_at dksX8_init_0 11 rfl rfl)
theorem dX8_init_13 : decode cX8_init 13 = .ok (.putfield 15, 3) := dk_181 0 15 (dk_at dksX8_init_0 13 rfl rfl)
theorem dX8_init_16 : decode cX8_init 16 = .ok (.aload_n 0, 1) := dk_42 (dk_at dksX8_init_0 16 rfl rfl)
theorem dX8_init_17 : decode cX8_init 17 = .ok (.sipush 682, 3) := dk_17 2 170 (dk_at dksX8_init_0 17 rfl rfl)
theorem dX8_init_20 : decode cX8_init 20 = .ok (.putfield 18, 3) := dk_181 0 18 (dk_at dksX8_init_0 20 rfl rfl)
theorem dX8_init_23 : decode cX8_init 23 = .ok (.aload_n 0, 1) := dk_42 (dk_at dksX8_init_0 23 rfl rfl)
theorem dX8_init_24 : decode cX8_init 24 = .ok (.new 21, 3) := dk_187 0 21 (dk_at dksX8_init_1 0 rfl rfl)
theorem dX8_init_27 : decode cX8_init 27 = .ok (.dup, 1) := dk_89 (dk_at dksX8_init_1 3 rfl rfl)
theorem dX8_init_28 : decode cX8_init 28 = .ok (.invokespecial 23, 3) := dk_183 0 23 (dk_at dksX8_init_1 4 rfl rfl)
theorem dX8_init_31 : decode cX8_init 31 = .ok (.putfield 24, 3) := dk_181 0 24 (dk_at dksX8_init_1 7 rfl rfl)
theorem dX8_init_34 : decode cX8_init 34 = .ok (.aload_n 0, 1) := dk_42 (dk_at dksX8_init_1 10 rfl rfl)
theorem dX8_init_35 : decode cX8_init 35 = .ok (.iload_n 1, 1) := dk_27 (dk_at dksX8_init_1 11 rfl rfl)
theorem dX8_init_36 : decode cX8_init 36 = .ok (.putfield 28, 3) := dk_181 0 28 (dk_at dksX8_init_1 12 rfl rfl)
theorem dX8_init_39 : decode cX8_init 39 = .ok (.aload_n 0, 1) := dk_42 (dk_at dksX8_init_1 15 rfl rfl)
theorem dX8_init_40 : decode cX8_init 40 = .ok (.invokevirtual 31, 3) := dk_182 0 31 (dk_at dksX8_init_1 16 rfl rfl)
theorem dX8_init_43 : decode cX8_init 43 = .ok (.aload_n 0, 1) := dk_42 (dk_at dksX8_init_1 19 rfl rfl)
theorem dX8_init_44 : decode cX8_init 44 = .ok (.invokevirtual 31, 3) := dk_182 0 31 (dk_at dksX8_init_1 20 rfl rfl)
theorem dX8_init_47 : decode cX8_init 47 = .ok (.return_, 1) := dk_177 (dk_at dksX8_init_1 23 rfl rfl)
abbrev cX8_grow : ByteArray := prog_17_method_4_code
def yX8_grow : MethodName := ⟨RX8, "grow", "()V"⟩
def dkwX8_grow_1 : List UInt8 := [180, 0, 24, 43, 182, 0, 69, 87, 177]
abbrev dktX8_grow_1 : List UInt8 := dkwX8_grow_1 ++ []
def dkwX8_grow_0 : List UInt8 := [187, 0, 63, 89, 183, 0, 85, 76, 43, 180, 0, 73, 42, 182, 0, 86, 184, 0, 76, 182, 0, 69, 87, 42]
abbrev dktX8_grow_0 : List UInt8 := dkwX8_grow_0 ++ dktX8_grow_1
theorem dksX8_grow_0 : cX8_grow.data.toList.drop 0 = dktX8_grow_0 := by decide +kernel
theorem dksX8_grow_1 : cX8_grow.data.toList.drop 24 = dktX8_grow_1 := dk_seg dksX8_grow_0 24 rfl rfl
theorem dX8_grow_0 : decode cX8_grow 0 = .ok (.new 63, 3) := dk_187 0 63 (dk_at dksX8_grow_0 0 rfl rfl)
theorem dX8_grow_3 : decode cX8_grow 3 = .ok (.dup, 1) := dk_89 (dk_at dksX8_grow_0 3 rfl rfl)
theorem dX8_grow_4 : decode cX8_grow 4 = .ok (.invokespecial 85, 3) := dk_183 0 85 (dk_at dksX8_grow_0 4 rfl rfl)
theorem dX8_grow_7 : decode cX8_grow 7 = .ok (.astore_n 1, 1) := dk_76 (dk_at dksX8_grow_0 7 rfl rfl)
theorem dX8_grow_8 : decode cX8_grow 8 = .ok (.aload_n 1, 1) := dk_43 (dk_at dksX8_grow_0 8 rfl rfl)
theorem dX8_grow_9 : decode cX8_grow 9 = .ok (.getfield 73, 3) := dk_180 0 73 (dk_at dksX8_grow_0 9 rfl rfl)
theorem dX8_grow_12 : decode cX8_grow 12 = .ok (.aload_n 0, 1) := dk_42 (dk_at dksX8_grow_0 12 rfl rfl)
theorem dX8_grow_13 : decode cX8_grow 13 = .ok (.invokevirtual 86, 3) := dk_182 0 86 (dk_at dksX8_grow_0 13 rfl rfl)
theorem dX8_grow_16 : decode cX8_grow 16 = .ok (.invokestatic 76, 3) := dk_184 0 76 (dk_at dksX8_grow_0 16 rfl rfl)
theorem dX8_grow_19 : decode cX8_grow 19 = .ok (.invokevirtual 69, 3) := dk_182 0 69 (dk_at dksX8_grow_0 19 rfl rfl)
theorem dX8_grow_22 : decode cX8_grow 22 = .ok (.pop, 1) := dk_87 (dk_at dksX8_grow_0 22 rfl rfl)
theorem dX8_grow_23 : decode cX8_grow 23 = .ok (.aload_n 0, 1) := dk_42 (dk_at dksX8_grow_0 23 rfl rfl)
theorem dX8_grow_24 : decode cX8_grow 24 = .ok (.getfield 24, 3) := dk_180 0 24 (dk_at dksX8_grow_1 0 rfl rfl)
theorem dX8_grow_27 : decode cX8_grow 27 = .ok (.aload_n 1, 1) := dk_43 (dk_at dksX8_grow_1 3 rfl rfl)
theorem dX8_grow_28 : decode cX8_grow 28 = .ok (.invokevirtual 69, 3) := dk_182 0 69 (dk_at dksX8_grow_1 4 rfl rfl)
theorem dX8_grow_31 : decode cX8_grow 31 = .ok (.pop, 1) := dk_87 (dk_at dksX8_grow_1 7 rfl rfl)
theorem dX8_grow_32 : decode cX8_grow 32 = .ok (.return_, 1) := dk_177 (dk_at dksX8_grow_1 8 rfl rfl)
abbrev cX8_free : ByteArray := prog_17_method_3_code
def yX8_free : MethodName := ⟨RX8, "free", "()I"⟩
def dkwX8_free_3 : List UInt8 := [132, 1, 1, 167, 255, 185, 2, 172]
abbrev dktX8_free_3 : List UInt8 := dkwX8_free_3 ++ []
def dkwX8_free_2 : List UInt8 := [182, 0, 82, 154, 0, 7, 4, 167, 0, 4, 3, 126, 61, 167, 255, 213, 28, 153, 0, 5, 27, 172]
abbrev dktX8_free_2 : List UInt8 := dkwX8_free_2 ++ dktX8_free_3
def dkwX8_free_1 : List UInt8 := [153, 0, 40, 45, 185, 0, 59, 1, 0, 192, 0, 63, 58, 4, 28, 25, 4, 180, 0, 73, 27, 184, 0, 76]
abbrev dktX8_free_1 : List UInt8 := dkwX8_free_1 ++ dktX8_free_2
def dkwX8_free_0 : List UInt8 := [3, 60, 27, 16, 96, 162, 0, 71, 4, 61, 42, 180, 0, 24, 182, 0, 49, 78, 45, 185, 0, 53, 1, 0]
abbrev dktX8_free_0 : List UInt8 := dkwX8_free_0 ++ dktX8_free_1
theorem dksX8_free_0 : cX8_free.data.toList.drop 0 = dktX8_free_0 := by decide +kernel
theorem dksX8_free_1 : cX8_free.data.toList.drop 24 = dktX8_free_1 := dk_seg dksX8_free_0 24 rfl rfl
theorem dksX8_free_2 : cX8_free.data.toList.drop 48 = dktX8_free_2 := dk_seg dksX8_free_1 24 rfl rfl
theorem dksX8_free_3 : cX8_free.data.toList.drop 70 = dktX8_free_3 := dk_seg dksX8_free_2 22 rfl rfl
theorem dX8_free_0 : decode cX8_free 0 = .ok (.iconst 0, 1) := dk_3 (dk_at dksX8_free_0 0 rfl rfl)
theorem dX8_free_1 : decode cX8_free 1 = .ok (.istore_n 1, 1) := dk_60 (dk_at dksX8_free_0 1 rfl rfl)
theorem dX8_free_2 : decode cX8_free 2 = .ok (.iload_n 1, 1) := dk_27 (dk_at dksX8_free_0 2 rfl rfl)
theorem dX8_free_3 : decode cX8_free 3 = .ok (.bipush 96, 2) := dk_16 96 (dk_at dksX8_free_0 3 rfl rfl)
theorem dX8_free_5 : decode cX8_free 5 = .ok (.if_icmp .ge 71, 3) := dk_162 0 71 (dk_at dksX8_free_0 5 rfl rfl)
theorem dX8_free_8 : decode cX8_free 8 = .ok (.iconst 1, 1) := dk_4 (dk_at dksX8_free_0 8 rfl rfl)
theorem dX8_free_9 : decode cX8_free 9 = .ok (.istore_n 2, 1) := dk_61 (dk_at dksX8_free_0 9 rfl rfl)
theorem dX8_free_10 : decode cX8_free 10 = .ok (.aload_n 0, 1) := dk_42 (dk_at dksX8_free_0 10 rfl rfl)
theorem dX8_free_11 : decode cX8_free 11 = .ok (.getfield 24, 3) := dk_180 0 24 (dk_at dksX8_free_0 11 rfl rfl)
theorem dX8_free_14 : decode cX8_free 14 = .ok (.invokevirtual 49, 3) := dk_182 0 49 (dk_at dksX8_free_0 14 rfl rfl)
theorem dX8_free_17 : decode cX8_free 17 = .ok (.astore_n 3, 1) := dk_78 (dk_at dksX8_free_0 17 rfl rfl)
theorem dX8_free_18 : decode cX8_free 18 = .ok (.aload_n 3, 1) := dk_45 (dk_at dksX8_free_0 18 rfl rfl)
theorem dX8_free_19 : decode cX8_free 19 = .ok (.invokeinterface 53 1, 5) := by decide +kernel
theorem dX8_free_24 : decode cX8_free 24 = .ok (.ifCond .eq 40, 3) := dk_153 0 40 (dk_at dksX8_free_1 0 rfl rfl)
theorem dX8_free_27 : decode cX8_free 27 = .ok (.aload_n 3, 1) := dk_45 (dk_at dksX8_free_1 3 rfl rfl)
theorem dX8_free_28 : decode cX8_free 28 = .ok (.invokeinterface 59 1, 5) := by decide +kernel
theorem dX8_free_33 : decode cX8_free 33 = .ok (.checkcast 63, 3) := dk_192 0 63 (dk_at dksX8_free_1 9 rfl rfl)
theorem dX8_free_36 : decode cX8_free 36 = .ok (.astore 4, 2) := dk_58 4 (dk_at dksX8_free_1 12 rfl rfl)
theorem dX8_free_38 : decode cX8_free 38 = .ok (.iload_n 2, 1) := dk_28 (dk_at dksX8_free_1 14 rfl rfl)
theorem dX8_free_39 : decode cX8_free 39 = .ok (.aload 4, 2) := dk_25 4 (dk_at dksX8_free_1 15 rfl rfl)
theorem dX8_free_41 : decode cX8_free 41 = .ok (.getfield 73, 3) := dk_180 0 73 (dk_at dksX8_free_1 17 rfl rfl)
theorem dX8_free_44 : decode cX8_free 44 = .ok (.iload_n 1, 1) := dk_27 (dk_at dksX8_free_1 20 rfl rfl)
theorem dX8_free_45 : decode cX8_free 45 = .ok (.invokestatic 76, 3) := dk_184 0 76 (dk_at dksX8_free_1 21 rfl rfl)
theorem dX8_free_48 : decode cX8_free 48 = .ok (.invokevirtual 82, 3) := dk_182 0 82 (dk_at dksX8_free_2 0 rfl rfl)
theorem dX8_free_51 : decode cX8_free 51 = .ok (.ifCond .ne 7, 3) := dk_154 0 7 (dk_at dksX8_free_2 3 rfl rfl)
theorem dX8_free_54 : decode cX8_free 54 = .ok (.iconst 1, 1) := dk_4 (dk_at dksX8_free_2 6 rfl rfl)
theorem dX8_free_55 : decode cX8_free 55 = .ok (.goto 4, 3) := dk_167 0 4 (dk_at dksX8_free_2 7 rfl rfl)
theorem dX8_free_58 : decode cX8_free 58 = .ok (.iconst 0, 1) := dk_3 (dk_at dksX8_free_2 10 rfl rfl)
theorem dX8_free_59 : decode cX8_free 59 = .ok (.iand, 1) := dk_126 (dk_at dksX8_free_2 11 rfl rfl)
theorem dX8_free_60 : decode cX8_free 60 = .ok (.istore_n 2, 1) := dk_61 (dk_at dksX8_free_2 12 rfl rfl)
theorem dX8_free_61 : decode cX8_free 61 = .ok (.goto (-43), 3) := dk_167 255 213 (dk_at dksX8_free_2 13 rfl rfl)
theorem dX8_free_64 : decode cX8_free 64 = .ok (.iload_n 2, 1) := dk_28 (dk_at dksX8_free_2 16 rfl rfl)
theorem dX8_free_65 : decode cX8_free 65 = .ok (.ifCond .eq 5, 3) := dk_153 0 5 (dk_at dksX8_free_2 17 rfl rfl)
theorem dX8_free_68 : decode cX8_free 68 = .ok (.iload_n 1, 1) := dk_27 (dk_at dksX8_free_2 20 rfl rfl)
theorem dX8_free_69 : decode cX8_free 69 = .ok (.ireturn, 1) := dk_172 (dk_at dksX8_free_2 21 rfl rfl)
theorem dX8_free_70 : decode cX8_free 70 = .ok (.iinc 1 1, 3) := dk_132 1 1 (dk_at dksX8_free_3 0 rfl rfl)
theorem dX8_free_73 : decode cX8_free 73 = .ok (.goto (-71), 3) := dk_167 255 185 (dk_at dksX8_free_3 3 rfl rfl)
theorem dX8_free_76 : decode cX8_free 76 = .ok (.iconst (-1), 1) := dk_2 (dk_at dksX8_free_3 6 rfl rfl)
theorem dX8_free_77 : decode cX8_free 77 = .ok (.ireturn, 1) := dk_172 (dk_at dksX8_free_3 7 rfl rfl)
abbrev cX8_records : ByteArray := prog_17_method_12_code
def yX8_records : MethodName := ⟨RX8, "records", "()I"⟩
def dkwX8_records_1 : List UInt8 := [185, 0, 59, 1, 0, 192, 0, 63, 78, 27, 45, 180, 0, 124, 182, 0, 90, 96, 60, 167, 255, 227, 27, 172]
abbrev dktX8_records_1 : List UInt8 := dkwX8_records_1 ++ []
def dkwX8_records_0 : List UInt8 := [3, 60, 42, 180, 0, 24, 182, 0, 49, 77, 44, 185, 0, 53, 1, 0, 153, 0, 26, 44]
abbrev dktX8_records_0 : List UInt8 := dkwX8_records_0 ++ dktX8_records_1
theorem dksX8_records_0 : cX8_records.data.toList.drop 0 = dktX8_records_0 := by decide +kernel
theorem dksX8_records_1 : cX8_records.data.toList.drop 20 = dktX8_records_1 := dk_seg dksX8_records_0 20 rfl rfl
theorem dX8_records_0 : decode cX8_records 0 = .ok (.iconst 0, 1) := dk_3 (dk_at dksX8_records_0 0 rfl rfl)
theorem dX8_records_1 : decode cX8_records 1 = .ok (.istore_n 1, 1) := dk_60 (dk_at dksX8_records_0 1 rfl rfl)
theorem dX8_records_2 : decode cX8_records 2 = .ok (.aload_n 0, 1) := dk_42 (dk_at dksX8_records_0 2 rfl rfl)
theorem dX8_records_3 : decode cX8_records 3 = .ok (.getfield 24, 3) := dk_180 0 24 (dk_at dksX8_records_0 3 rfl rfl)
theorem dX8_records_6 : decode cX8_records 6 = .ok (.invokevirtual 49, 3) := dk_182 0 49 (dk_at dksX8_records_0 6 rfl rfl)
theorem dX8_records_9 : decode cX8_records 9 = .ok (.astore_n 2, 1) := dk_77 (dk_at dksX8_records_0 9 rfl rfl)
theorem dX8_records_10 : decode cX8_records 10 = .ok (.aload_n 2, 1) := dk_44 (dk_at dksX8_records_0 10 rfl rfl)
theorem dX8_records_11 : decode cX8_records 11 = .ok (.invokeinterface 53 1, 5) := by decide +kernel
theorem dX8_records_16 : decode cX8_records 16 = .ok (.ifCond .eq 26, 3) := dk_153 0 26 (dk_at dksX8_records_0 16 rfl rfl)
theorem dX8_records_19 : decode cX8_records 19 = .ok (.aload_n 2, 1) := dk_44 (dk_at dksX8_records_0 19 rfl rfl)
theorem dX8_records_20 : decode cX8_records 20 = .ok (.invokeinterface 59 1, 5) := by decide +kernel
theorem dX8_records_25 : decode cX8_records 25 = .ok (.checkcast 63, 3) := dk_192 0 63 (dk_at dksX8_records_1 5 rfl rfl)
theorem dX8_records_28 : decode cX8_records 28 = .ok (.astore_n 3, 1) := dk_78 (dk_at dksX8_records_1 8 rfl rfl)
theorem dX8_records_29 : decode cX8_records 29 = .ok (.iload_n 1, 1) := dk_27 (dk_at dksX8_records_1 9 rfl rfl)
theorem dX8_records_30 : decode cX8_records 30 = .ok (.aload_n 3, 1) := dk_45 (dk_at dksX8_records_1 10 rfl rfl)
theorem dX8_records_31 : decode cX8_records 31 = .ok (.getfield 124, 3) := dk_180 0 124 (dk_at dksX8_records_1 11 rfl rfl)
theorem dX8_records_34 : decode cX8_records 34 = .ok (.invokevirtual 90, 3) := dk_182 0 90 (dk_at dksX8_records_1 14 rfl rfl)
theorem dX8_records_37 : decode cX8_records 37 = .ok (.iadd, 1) := dk_96 (dk_at dksX8_records_1 17 rfl rfl)
theorem dX8_records_38 : decode cX8_records 38 = .ok (.istore_n 1, 1) := dk_60 (dk_at dksX8_records_1 18 rfl rfl)
theorem dX8_records_39 : decode cX8_records 39 = .ok (.goto (-29), 3) := dk_167 255 227 (dk_at dksX8_records_1 19 rfl rfl)
theorem dX8_records_42 : decode cX8_records 42 = .ok (.iload_n 1, 1) := dk_27 (dk_at dksX8_records_1 22 rfl rfl)
theorem dX8_records_43 : decode cX8_records 43 = .ok (.ireturn, 1) := dk_172 (dk_at dksX8_records_1 23 rfl rfl)
abbrev cX8_copy : ByteArray := prog_17_method_2_code
def yX8_copy : MethodName := ⟨RX8, "copy", "()LSplitpointerModel$Disk;"⟩
def dkwX8_copy_4 : List UInt8 := [192, 0, 63, 78, 43, 180, 0, 24, 45, 182, 0, 65, 182, 0, 69, 87, 167, 255, 225, 43, 176]
abbrev dktX8_copy_4 : List UInt8 := dkwX8_copy_4 ++ []
def dkwX8_copy_3 : List UInt8 := [180, 0, 24, 182, 0, 49, 77, 44, 185, 0, 53, 1, 0, 153, 0, 28, 44, 185, 0, 59, 1, 0]
abbrev dktX8_copy_3 : List UInt8 := dkwX8_copy_3 ++ dktX8_copy_4
def dkwX8_copy_2 : List UInt8 := [180, 0, 40, 181, 0, 40, 43, 42, 180, 0, 43, 181, 0, 43, 43, 180, 0, 24, 182, 0, 46, 42]
abbrev dktX8_copy_2 : List UInt8 := dkwX8_copy_2 ++ dktX8_copy_3
def dkwX8_copy_1 : List UInt8 := [180, 0, 15, 181, 0, 15, 43, 42, 180, 0, 18, 181, 0, 18, 43, 42, 180, 0, 37, 181, 0, 37, 43, 42]
abbrev dktX8_copy_1 : List UInt8 := dkwX8_copy_1 ++ dktX8_copy_2
def dkwX8_copy_0 : List UInt8 := [187, 0, 10, 89, 42, 180, 0, 28, 183, 0, 34, 76, 43, 42, 180, 0, 9, 181, 0, 9, 43, 42]
abbrev dktX8_copy_0 : List UInt8 := dkwX8_copy_0 ++ dktX8_copy_1
theorem dksX8_copy_0 : cX8_copy.data.toList.drop 0 = dktX8_copy_0 := by decide +kernel
theorem dksX8_copy_1 : cX8_copy.data.toList.drop 22 = dktX8_copy_1 := dk_seg dksX8_copy_0 22 rfl rfl
theorem dksX8_copy_2 : cX8_copy.data.toList.drop 46 = dktX8_copy_2 := dk_seg dksX8_copy_1 24 rfl rfl
theorem dksX8_copy_3 : cX8_copy.data.toList.drop 68 = dktX8_copy_3 := dk_seg dksX8_copy_2 22 rfl rfl
theorem dksX8_copy_4 : cX8_copy.data.toList.drop 90 = dktX8_copy_4 := dk_seg dksX8_copy_3 22 rfl rfl
theorem dX8_copy_0 : decode cX8_copy 0 = .ok (.new 10, 3) := dk_187 0 10 (dk_at dksX8_copy_0 0 rfl rfl)
theorem dX8_copy_3 : decode cX8_copy 3 = .ok (.dup, 1) := dk_89 (dk_at dksX8_copy_0 3 rfl rfl)
theorem dX8_copy_4 : decode cX8_copy 4 = .ok (.aload_n 0, 1) := dk_42 (dk_at dksX8_copy_0 4 rfl rfl)
theorem dX8_copy_5 : decode cX8_copy 5 = .ok (.getfield 28, 3) := dk_180 0 28 (dk_at dksX8_copy_0 5 rfl rfl)
theorem dX8_copy_8 : decode cX8_copy 8 = .ok (.invokespecial 34, 3) := dk_183 0 34 (dk_at dksX8_copy_0 8 rfl rfl)
theorem dX8_copy_11 : decode cX8_copy 11 = .ok (.astore_n 1, 1) := dk_76 (dk_at dksX8_copy_0 11 rfl rfl)
theorem dX8_copy_12 : decode cX8_copy 12 = .ok (.aload_n 1, 1) := dk_43 (dk_at dksX8_copy_0 12 rfl rfl)
theorem dX8_copy_13 : decode cX8_copy 13 = .ok (.aload_n 0, 1) := dk_42 (dk_at dksX8_copy_0 13 rfl rfl)
theorem dX8_copy_14 : decode cX8_copy 14 = .ok (.getfield 9, 3) := dk_180 0 9 (dk_at dksX8_copy_0 14 rfl rfl)
theorem dX8_copy_17 : decode cX8_copy 17 = .ok (.putfield 9, 3) := dk_181 0 9 (dk_at dksX8_copy_0 17 rfl rfl)
theorem dX8_copy_20 : decode cX8_copy 20 = .ok (.aload_n 1, 1) := dk_43 (dk_at dksX8_copy_0 20 rfl rfl)
theorem dX8_copy_21 : decode cX8_copy 21 = .ok (.aload_n 0, 1) := dk_42 (dk_at dksX8_copy_0 21 rfl rfl)
theorem dX8_copy_22 : decode cX8_copy 22 = .ok (.getfield 15, 3) := dk_180 0 15 (dk_at dksX8_copy_1 0 rfl rfl)
theorem dX8_copy_25 : decode cX8_copy 25 = .ok (.putfield 15, 3) := dk_181 0 15 (dk_at dksX8_copy_1 3 rfl rfl)
theorem dX8_copy_28 : decode cX8_copy 28 = .ok (.aload_n 1, 1) := dk_43 (dk_at dksX8_copy_1 6 rfl rfl)
theorem dX8_copy_29 : decode cX8_copy 29 = .ok (.aload_n 0, 1) := dk_42 (dk_at dksX8_copy_1 7 rfl rfl)
theorem dX8_copy_30 : decode cX8_copy 30 = .ok (.getfield 18, 3) := dk_180 0 18 (dk_at dksX8_copy_1 8 rfl rfl)
theorem dX8_copy_33 : decode cX8_copy 33 = .ok (.putfield 18, 3) := dk_181 0 18 (dk_at dksX8_copy_1 11 rfl rfl)
theorem dX8_copy_36 : decode cX8_copy 36 = .ok (.aload_n 1, 1) := dk_43 (dk_at dksX8_copy_1 14 rfl rfl)
theorem dX8_copy_37 : decode cX8_copy 37 = .ok (.aload_n 0, 1) := dk_42 (dk_at dksX8_copy_1 15 rfl rfl)
theorem dX8_copy_38 : decode cX8_copy 38 = .ok (.getfield 37, 3) := dk_180 0 37 (dk_at dksX8_copy_1 16 rfl rfl)
theorem dX8_copy_41 : decode cX8_copy 41 = .ok (.putfield 37, 3) := dk_181 0 37 (dk_at dksX8_copy_1 19 rfl rfl)
theorem dX8_copy_44 : decode cX8_copy 44 = .ok (.aload_n 1, 1) := dk_43 (dk_at dksX8_copy_1 22 rfl rfl)
theorem dX8_copy_45 : decode cX8_copy 45 = .ok (.aload_n 0, 1) := dk_42 (dk_at dksX8_copy_1 23 rfl rfl)
theorem dX8_copy_46 : decode cX8_copy 46 = .ok (.getfield 40, 3) := dk_180 0 40 (dk_at dksX8_copy_2 0 rfl rfl)
theorem dX8_copy_49 : decode cX8_copy 49 = .ok (.putfield 40, 3) := dk_181 0 40 (dk_at dksX8_copy_2 3 rfl rfl)
theorem dX8_copy_52 : decode cX8_copy 52 = .ok (.aload_n 1, 1) := dk_43 (dk_at dksX8_copy_2 6 rfl rfl)
theorem dX8_copy_53 : decode cX8_copy 53 = .ok (.aload_n 0, 1) := dk_42 (dk_at dksX8_copy_2 7 rfl rfl)
theorem dX8_copy_54 : decode cX8_copy 54 = .ok (.getfield 43, 3) := dk_180 0 43 (dk_at dksX8_copy_2 8 rfl rfl)
theorem dX8_copy_57 : decode cX8_copy 57 = .ok (.putfield 43, 3) := dk_181 0 43 (dk_at dksX8_copy_2 11 rfl rfl)
theorem dX8_copy_60 : decode cX8_copy 60 = .ok (.aload_n 1, 1) := dk_43 (dk_at dksX8_copy_2 14 rfl rfl)
theorem dX8_copy_61 : decode cX8_copy 61 = .ok (.getfield 24, 3) := dk_180 0 24 (dk_at dksX8_copy_2 15 rfl rfl)
theorem dX8_copy_64 : decode cX8_copy 64 = .ok (.invokevirtual 46, 3) := dk_182 0 46 (dk_at dksX8_copy_2 18 rfl rfl)
theorem dX8_copy_67 : decode cX8_copy 67 = .ok (.aload_n 0, 1) := dk_42 (dk_at dksX8_copy_2 21 rfl rfl)
theorem dX8_copy_68 : decode cX8_copy 68 = .ok (.getfield 24, 3) := dk_180 0 24 (dk_at dksX8_copy_3 0 rfl rfl)
theorem dX8_copy_71 : decode cX8_copy 71 = .ok (.invokevirtual 49, 3) := dk_182 0 49 (dk_at dksX8_copy_3 3 rfl rfl)
theorem dX8_copy_74 : decode cX8_copy 74 = .ok (.astore_n 2, 1) := dk_77 (dk_at dksX8_copy_3 6 rfl rfl)
theorem dX8_copy_75 : decode cX8_copy 75 = .ok (.aload_n 2, 1) := dk_44 (dk_at dksX8_copy_3 7 rfl rfl)
theorem dX8_copy_76 : decode cX8_copy 76 = .ok (.invokeinterface 53 1, 5) := by decide +kernel
theorem dX8_copy_81 : decode cX8_copy 81 = .ok (.ifCond .eq 28, 3) := dk_153 0 28 (dk_at dksX8_copy_3 13 rfl rfl)
theorem dX8_copy_84 : decode cX8_copy 84 = .ok (.aload_n 2, 1) := dk_44 (dk_at dksX8_copy_3 16 rfl rfl)
theorem dX8_copy_85 : decode cX8_copy 85 = .ok (.invokeinterface 59 1, 5) := by decide +kernel
theorem dX8_copy_90 : decode cX8_copy 90 = .ok (.checkcast 63, 3) := dk_192 0 63 (dk_at dksX8_copy_4 0 rfl rfl)
theorem dX8_copy_93 : decode cX8_copy 93 = .ok (.astore_n 3, 1) := dk_78 (dk_at dksX8_copy_4 3 rfl rfl)
theorem dX8_copy_94 : decode cX8_copy 94 = .ok (.aload_n 1, 1) := dk_43 (dk_at dksX8_copy_4 4 rfl rfl)
theorem dX8_copy_95 : decode cX8_copy 95 = .ok (.getfield 24, 3) := dk_180 0 24 (dk_at dksX8_copy_4 5 rfl rfl)
theorem dX8_copy_98 : decode cX8_copy 98 = .ok (.aload_n 3, 1) := dk_45 (dk_at dksX8_copy_4 8 rfl rfl)
theorem dX8_copy_99 : decode cX8_copy 99 = .ok (.invokevirtual 65, 3) := dk_182 0 65 (dk_at dksX8_copy_4 9 rfl rfl)
theorem dX8_copy_102 : decode cX8_copy 102 = .ok (.invokevirtual 69, 3) := dk_182 0 69 (dk_at dksX8_copy_4 12 rfl rfl)
theorem dX8_copy_105 : decode cX8_copy 105 = .ok (.pop, 1) := dk_87 (dk_at dksX8_copy_4 15 rfl rfl)
theorem dX8_copy_106 : decode cX8_copy 106 = .ok (.goto (-31), 3) := dk_167 255 225 (dk_at dksX8_copy_4 16 rfl rfl)
theorem dX8_copy_109 : decode cX8_copy 109 = .ok (.aload_n 1, 1) := dk_43 (dk_at dksX8_copy_4 19 rfl rfl)
theorem dX8_copy_110 : decode cX8_copy 110 = .ok (.areturn, 1) := dk_176 (dk_at dksX8_copy_4 20 rfl rfl)
abbrev cX8_act : ByteArray := prog_17_method_23_code
def yX8_act : MethodName := ⟨RX8, "act", "([I)I"⟩
def dkwX8_act_2 : List UInt8 := [182, 0, 185, 172, 42, 43, 4, 46, 181, 0, 9, 42, 43, 5, 46, 181, 0, 15, 42, 182, 0, 160, 172]
abbrev dktX8_act_2 : List UInt8 := dkwX8_act_2 ++ []
def dkwX8_act_1 : List UInt8 := [42, 43, 4, 46, 182, 0, 182, 172, 43, 3, 46, 5, 160, 0, 14, 42, 43, 4, 46, 43, 5, 46]
abbrev dktX8_act_1 : List UInt8 := dkwX8_act_1 ++ dktX8_act_2
def dkwX8_act_0 : List UInt8 := [43, 3, 46, 154, 0, 14, 42, 43, 4, 46, 43, 5, 46, 182, 0, 177, 172, 43, 3, 46, 4, 160, 0, 11]
abbrev dktX8_act_0 : List UInt8 := dkwX8_act_0 ++ dktX8_act_1
theorem dksX8_act_0 : cX8_act.data.toList.drop 0 = dktX8_act_0 := by decide +kernel
theorem dksX8_act_1 : cX8_act.data.toList.drop 24 = dktX8_act_1 := dk_seg dksX8_act_0 24 rfl rfl
theorem dksX8_act_2 : cX8_act.data.toList.drop 46 = dktX8_act_2 := dk_seg dksX8_act_1 22 rfl rfl
theorem dX8_act_0 : decode cX8_act 0 = .ok (.aload_n 1, 1) := dk_43 (dk_at dksX8_act_0 0 rfl rfl)
theorem dX8_act_1 : decode cX8_act 1 = .ok (.iconst 0, 1) := dk_3 (dk_at dksX8_act_0 1 rfl rfl)
theorem dX8_act_2 : decode cX8_act 2 = .ok (.iaload, 1) := dk_46 (dk_at dksX8_act_0 2 rfl rfl)
theorem dX8_act_3 : decode cX8_act 3 = .ok (.ifCond .ne 14, 3) := dk_154 0 14 (dk_at dksX8_act_0 3 rfl rfl)
theorem dX8_act_6 : decode cX8_act 6 = .ok (.aload_n 0, 1) := dk_42 (dk_at dksX8_act_0 6 rfl rfl)
theorem dX8_act_7 : decode cX8_act 7 = .ok (.aload_n 1, 1) := dk_43 (dk_at dksX8_act_0 7 rfl rfl)
theorem dX8_act_8 : decode cX8_act 8 = .ok (.iconst 1, 1) := dk_4 (dk_at dksX8_act_0 8 rfl rfl)
theorem dX8_act_9 : decode cX8_act 9 = .ok (.iaload, 1) := dk_46 (dk_at dksX8_act_0 9 rfl rfl)
theorem dX8_act_10 : decode cX8_act 10 = .ok (.aload_n 1, 1) := dk_43 (dk_at dksX8_act_0 10 rfl rfl)
theorem dX8_act_11 : decode cX8_act 11 = .ok (.iconst 2, 1) := dk_5 (dk_at dksX8_act_0 11 rfl rfl)
theorem dX8_act_12 : decode cX8_act 12 = .ok (.iaload, 1) := dk_46 (dk_at dksX8_act_0 12 rfl rfl)
theorem dX8_act_13 : decode cX8_act 13 = .ok (.invokevirtual 177, 3) := dk_182 0 177 (dk_at dksX8_act_0 13 rfl rfl)
theorem dX8_act_16 : decode cX8_act 16 = .ok (.ireturn, 1) := dk_172 (dk_at dksX8_act_0 16 rfl rfl)
theorem dX8_act_17 : decode cX8_act 17 = .ok (.aload_n 1, 1) := dk_43 (dk_at dksX8_act_0 17 rfl rfl)
theorem dX8_act_18 : decode cX8_act 18 = .ok (.iconst 0, 1) := dk_3 (dk_at dksX8_act_0 18 rfl rfl)
theorem dX8_act_19 : decode cX8_act 19 = .ok (.iaload, 1) := dk_46 (dk_at dksX8_act_0 19 rfl rfl)
theorem dX8_act_20 : decode cX8_act 20 = .ok (.iconst 1, 1) := dk_4 (dk_at dksX8_act_0 20 rfl rfl)
theorem dX8_act_21 : decode cX8_act 21 = .ok (.if_icmp .ne 11, 3) := dk_160 0 11 (dk_at dksX8_act_0 21 rfl rfl)
theorem dX8_act_24 : decode cX8_act 24 = .ok (.aload_n 0, 1) := dk_42 (dk_at dksX8_act_1 0 rfl rfl)
theorem dX8_act_25 : decode cX8_act 25 = .ok (.aload_n 1, 1) := dk_43 (dk_at dksX8_act_1 1 rfl rfl)
theorem dX8_act_26 : decode cX8_act 26 = .ok (.iconst 1, 1) := dk_4 (dk_at dksX8_act_1 2 rfl rfl)
theorem dX8_act_27 : decode cX8_act 27 = .ok (.iaload, 1) := dk_46 (dk_at dksX8_act_1 3 rfl rfl)
theorem dX8_act_28 : decode cX8_act 28 = .ok (.invokevirtual 182, 3) := dk_182 0 182 (dk_at dksX8_act_1 4 rfl rfl)
theorem dX8_act_31 : decode cX8_act 31 = .ok (.ireturn, 1) := dk_172 (dk_at dksX8_act_1 7 rfl rfl)
theorem dX8_act_32 : decode cX8_act 32 = .ok (.aload_n 1, 1) := dk_43 (dk_at dksX8_act_1 8 rfl rfl)
theorem dX8_act_33 : decode cX8_act 33 = .ok (.iconst 0, 1) := dk_3 (dk_at dksX8_act_1 9 rfl rfl)
theorem dX8_act_34 : decode cX8_act 34 = .ok (.iaload, 1) := dk_46 (dk_at dksX8_act_1 10 rfl rfl)
theorem dX8_act_35 : decode cX8_act 35 = .ok (.iconst 2, 1) := dk_5 (dk_at dksX8_act_1 11 rfl rfl)
theorem dX8_act_36 : decode cX8_act 36 = .ok (.if_icmp .ne 14, 3) := dk_160 0 14 (dk_at dksX8_act_1 12 rfl rfl)
theorem dX8_act_39 : decode cX8_act 39 = .ok (.aload_n 0, 1) := dk_42 (dk_at dksX8_act_1 15 rfl rfl)
theorem dX8_act_40 : decode cX8_act 40 = .ok (.aload_n 1, 1) := dk_43 (dk_at dksX8_act_1 16 rfl rfl)
theorem dX8_act_41 : decode cX8_act 41 = .ok (.iconst 1, 1) := dk_4 (dk_at dksX8_act_1 17 rfl rfl)
theorem dX8_act_42 : decode cX8_act 42 = .ok (.iaload, 1) := dk_46 (dk_at dksX8_act_1 18 rfl rfl)
theorem dX8_act_43 : decode cX8_act 43 = .ok (.aload_n 1, 1) := dk_43 (dk_at dksX8_act_1 19 rfl rfl)
theorem dX8_act_44 : decode cX8_act 44 = .ok (.iconst 2, 1) := dk_5 (dk_at dksX8_act_1 20 rfl rfl)
theorem dX8_act_45 : decode cX8_act 45 = .ok (.iaload, 1) := dk_46 (dk_at dksX8_act_1 21 rfl rfl)
theorem dX8_act_46 : decode cX8_act 46 = .ok (.invokevirtual 185, 3) := dk_182 0 185 (dk_at dksX8_act_2 0 rfl rfl)
theorem dX8_act_49 : decode cX8_act 49 = .ok (.ireturn, 1) := dk_172 (dk_at dksX8_act_2 3 rfl rfl)
theorem dX8_act_50 : decode cX8_act 50 = .ok (.aload_n 0, 1) := dk_42 (dk_at dksX8_act_2 4 rfl rfl)
theorem dX8_act_51 : decode cX8_act 51 = .ok (.aload_n 1, 1) := dk_43 (dk_at dksX8_act_2 5 rfl rfl)
theorem dX8_act_52 : decode cX8_act 52 = .ok (.iconst 1, 1) := dk_4 (dk_at dksX8_act_2 6 rfl rfl)
theorem dX8_act_53 : decode cX8_act 53 = .ok (.iaload, 1) := dk_46 (dk_at dksX8_act_2 7 rfl rfl)
theorem dX8_act_54 : decode cX8_act 54 = .ok (.putfield 9, 3) := dk_181 0 9 (dk_at dksX8_act_2 8 rfl rfl)
theorem dX8_act_57 : decode cX8_act 57 = .ok (.aload_n 0, 1) := dk_42 (dk_at dksX8_act_2 11 rfl rfl)
theorem dX8_act_58 : decode cX8_act 58 = .ok (.aload_n 1, 1) := dk_43 (dk_at dksX8_act_2 12 rfl rfl)
theorem dX8_act_59 : decode cX8_act 59 = .ok (.iconst 2, 1) := dk_5 (dk_at dksX8_act_2 13 rfl rfl)
theorem dX8_act_60 : decode cX8_act 60 = .ok (.iaload, 1) := dk_46 (dk_at dksX8_act_2 14 rfl rfl)
theorem dX8_act_61 : decode cX8_act 61 = .ok (.putfield 15, 3) := dk_181 0 15 (dk_at dksX8_act_2 15 rfl rfl)
theorem dX8_act_64 : decode cX8_act 64 = .ok (.aload_n 0, 1) := dk_42 (dk_at dksX8_act_2 18 rfl rfl)
theorem dX8_act_65 : decode cX8_act 65 = .ok (.invokevirtual 160, 3) := dk_182 0 160 (dk_at dksX8_act_2 19 rfl rfl)
theorem dX8_act_68 : decode cX8_act 68 = .ok (.ireturn, 1) := dk_172 (dk_at dksX8_act_2 22 rfl rfl)
abbrev cX8_put : ByteArray := prog_17_method_20_code
def yX8_put : MethodName := ⟨RX8, "put", "(II)I"⟩
def dkwX8_put_3 : List UInt8 := [2, 172]
abbrev dktX8_put_3 : List UInt8 := dkwX8_put_3 ++ []
def dkwX8_put_2 : List UInt8 := [4, 28, 79, 182, 0, 154, 42, 182, 0, 160, 42, 180, 0, 15, 164, 0, 10, 42, 182, 0, 163, 167, 255, 241]
abbrev dktX8_put_2 : List UInt8 := dkwX8_put_2 ++ dktX8_put_3
def dkwX8_put_1 : List UInt8 := [27, 182, 0, 121, 182, 0, 107, 192, 0, 127, 4, 28, 79, 29, 172, 42, 5, 188, 10, 89, 3, 27, 79, 89]
abbrev dktX8_put_1 : List UInt8 := dkwX8_put_1 ++ dktX8_put_2
def dkwX8_put_0 : List UInt8 := [42, 27, 182, 0, 158, 62, 29, 2, 159, 0, 31, 42, 27, 182, 0, 114, 180, 0, 124, 42, 27, 182, 0, 114]
abbrev dktX8_put_0 : List UInt8 := dkwX8_put_0 ++ dktX8_put_1
theorem dksX8_put_0 : cX8_put.data.toList.drop 0 = dktX8_put_0 := by decide +kernel
theorem dksX8_put_1 : cX8_put.data.toList.drop 24 = dktX8_put_1 := dk_seg dksX8_put_0 24 rfl rfl
theorem dksX8_put_2 : cX8_put.data.toList.drop 48 = dktX8_put_2 := dk_seg dksX8_put_1 24 rfl rfl
theorem dksX8_put_3 : cX8_put.data.toList.drop 72 = dktX8_put_3 := dk_seg dksX8_put_2 24 rfl rfl
theorem dX8_put_0 : decode cX8_put 0 = .ok (.aload_n 0, 1) := dk_42 (dk_at dksX8_put_0 0 rfl rfl)
theorem dX8_put_1 : decode cX8_put 1 = .ok (.iload_n 1, 1) := dk_27 (dk_at dksX8_put_0 1 rfl rfl)
theorem dX8_put_2 : decode cX8_put 2 = .ok (.invokevirtual 158, 3) := dk_182 0 158 (dk_at dksX8_put_0 2 rfl rfl)
theorem dX8_put_5 : decode cX8_put 5 = .ok (.istore_n 3, 1) := dk_62 (dk_at dksX8_put_0 5 rfl rfl)
theorem dX8_put_6 : decode cX8_put 6 = .ok (.iload_n 3, 1) := dk_29 (dk_at dksX8_put_0 6 rfl rfl)
theorem dX8_put_7 : decode cX8_put 7 = .ok (.iconst (-1), 1) := dk_2 (dk_at dksX8_put_0 7 rfl rfl)
theorem dX8_put_8 : decode cX8_put 8 = .ok (.if_icmp .eq 31, 3) := dk_159 0 31 (dk_at dksX8_put_0 8 rfl rfl)
theorem dX8_put_11 : decode cX8_put 11 = .ok (.aload_n 0, 1) := dk_42 (dk_at dksX8_put_0 11 rfl rfl)
theorem dX8_put_12 : decode cX8_put 12 = .ok (.iload_n 1, 1) := dk_27 (dk_at dksX8_put_0 12 rfl rfl)
theorem dX8_put_13 : decode cX8_put 13 = .ok (.invokevirtual 114, 3) := dk_182 0 114 (dk_at dksX8_put_0 13 rfl rfl)
theorem dX8_put_16 : decode cX8_put 16 = .ok (.getfield 124, 3) := dk_180 0 124 (dk_at dksX8_put_0 16 rfl rfl)
theorem dX8_put_19 : decode cX8_put 19 = .ok (.aload_n 0, 1) := dk_42 (dk_at dksX8_put_0 19 rfl rfl)
theorem dX8_put_20 : decode cX8_put 20 = .ok (.iload_n 1, 1) := dk_27 (dk_at dksX8_put_0 20 rfl rfl)
theorem dX8_put_21 : decode cX8_put 21 = .ok (.invokevirtual 114, 3) := dk_182 0 114 (dk_at dksX8_put_0 21 rfl rfl)
theorem dX8_put_24 : decode cX8_put 24 = .ok (.iload_n 1, 1) := dk_27 (dk_at dksX8_put_1 0 rfl rfl)
theorem dX8_put_25 : decode cX8_put 25 = .ok (.invokevirtual 121, 3) := dk_182 0 121 (dk_at dksX8_put_1 1 rfl rfl)
theorem dX8_put_28 : decode cX8_put 28 = .ok (.invokevirtual 107, 3) := dk_182 0 107 (dk_at dksX8_put_1 4 rfl rfl)
theorem dX8_put_31 : decode cX8_put 31 = .ok (.checkcast 127, 3) := dk_192 0 127 (dk_at dksX8_put_1 7 rfl rfl)
theorem dX8_put_34 : decode cX8_put 34 = .ok (.iconst 1, 1) := dk_4 (dk_at dksX8_put_1 10 rfl rfl)
theorem dX8_put_35 : decode cX8_put 35 = .ok (.iload_n 2, 1) := dk_28 (dk_at dksX8_put_1 11 rfl rfl)
theorem dX8_put_36 : decode cX8_put 36 = .ok (.iastore, 1) := dk_79 (dk_at dksX8_put_1 12 rfl rfl)
theorem dX8_put_37 : decode cX8_put 37 = .ok (.iload_n 3, 1) := dk_29 (dk_at dksX8_put_1 13 rfl rfl)
theorem dX8_put_38 : decode cX8_put 38 = .ok (.ireturn, 1) := dk_172 (dk_at dksX8_put_1 14 rfl rfl)
theorem dX8_put_39 : decode cX8_put 39 = .ok (.aload_n 0, 1) := dk_42 (dk_at dksX8_put_1 15 rfl rfl)
theorem dX8_put_40 : decode cX8_put 40 = .ok (.iconst 2, 1) := dk_5 (dk_at dksX8_put_1 16 rfl rfl)
theorem dX8_put_41 : decode cX8_put 41 = .ok (.newarray .int, 2) := dk_188_10 (dk_at dksX8_put_1 17 rfl rfl)
theorem dX8_put_43 : decode cX8_put 43 = .ok (.dup, 1) := dk_89 (dk_at dksX8_put_1 19 rfl rfl)
theorem dX8_put_44 : decode cX8_put 44 = .ok (.iconst 0, 1) := dk_3 (dk_at dksX8_put_1 20 rfl rfl)
theorem dX8_put_45 : decode cX8_put 45 = .ok (.iload_n 1, 1) := dk_27 (dk_at dksX8_put_1 21 rfl rfl)
theorem dX8_put_46 : decode cX8_put 46 = .ok (.iastore, 1) := dk_79 (dk_at dksX8_put_1 22 rfl rfl)
theorem dX8_put_47 : decode cX8_put 47 = .ok (.dup, 1) := dk_89 (dk_at dksX8_put_1 23 rfl rfl)
theorem dX8_put_48 : decode cX8_put 48 = .ok (.iconst 1, 1) := dk_4 (dk_at dksX8_put_2 0 rfl rfl)
theorem dX8_put_49 : decode cX8_put 49 = .ok (.iload_n 2, 1) := dk_28 (dk_at dksX8_put_2 1 rfl rfl)
theorem dX8_put_50 : decode cX8_put 50 = .ok (.iastore, 1) := dk_79 (dk_at dksX8_put_2 2 rfl rfl)
theorem dX8_put_51 : decode cX8_put 51 = .ok (.invokevirtual 154, 3) := dk_182 0 154 (dk_at dksX8_put_2 3 rfl rfl)
theorem dX8_put_54 : decode cX8_put 54 = .ok (.aload_n 0, 1) := dk_42 (dk_at dksX8_put_2 6 rfl rfl)
theorem dX8_put_55 : decode cX8_put 55 = .ok (.invokevirtual 160, 3) := dk_182 0 160 (dk_at dksX8_put_2 7 rfl rfl)
theorem dX8_put_58 : decode cX8_put 58 = .ok (.aload_n 0, 1) := dk_42 (dk_at dksX8_put_2 10 rfl rfl)
theorem dX8_put_59 : decode cX8_put 59 = .ok (.getfield 15, 3) := dk_180 0 15 (dk_at dksX8_put_2 11 rfl rfl)
theorem dX8_put_62 : decode cX8_put 62 = .ok (.if_icmp .le 10, 3) := dk_164 0 10 (dk_at dksX8_put_2 14 rfl rfl)
theorem dX8_put_65 : decode cX8_put 65 = .ok (.aload_n 0, 1) := dk_42 (dk_at dksX8_put_2 17 rfl rfl)
theorem dX8_put_66 : decode cX8_put 66 = .ok (.invokevirtual 163, 3) := dk_182 0 163 (dk_at dksX8_put_2 18 rfl rfl)
theorem dX8_put_69 : decode cX8_put 69 = .ok (.goto (-15), 3) := dk_167 255 241 (dk_at dksX8_put_2 21 rfl rfl)
theorem dX8_put_72 : decode cX8_put 72 = .ok (.iconst (-1), 1) := dk_2 (dk_at dksX8_put_3 0 rfl rfl)
theorem dX8_put_73 : decode cX8_put 73 = .ok (.ireturn, 1) := dk_172 (dk_at dksX8_put_3 1 rfl rfl)
abbrev cX8_get : ByteArray := prog_17_method_10_code
def yX8_get : MethodName := ⟨RX8, "get", "(I)I"⟩
def dkwX8_get_1 : List UInt8 := [180, 0, 124, 28, 182, 0, 107, 192, 0, 127, 4, 46, 172]
abbrev dktX8_get_1 : List UInt8 := dkwX8_get_1 ++ []
def dkwX8_get_0 : List UInt8 := [42, 27, 182, 0, 114, 27, 182, 0, 121, 61, 28, 2, 160, 0, 7, 2, 167, 0, 20, 42, 27, 182, 0, 114]
abbrev dktX8_get_0 : List UInt8 := dkwX8_get_0 ++ dktX8_get_1
theorem dksX8_get_0 : cX8_get.data.toList.drop 0 = dktX8_get_0 := by decide +kernel
theorem dksX8_get_1 : cX8_get.data.toList.drop 24 = dktX8_get_1 := dk_seg dksX8_get_0 24 rfl rfl
theorem dX8_get_0 : decode cX8_get 0 = .ok (.aload_n 0, 1) := dk_42 (dk_at dksX8_get_0 0 rfl rfl)
theorem dX8_get_1 : decode cX8_get 1 = .ok (.iload_n 1, 1) := dk_27 (dk_at dksX8_get_0 1 rfl rfl)
theorem dX8_get_2 : decode cX8_get 2 = .ok (.invokevirtual 114, 3) := dk_182 0 114 (dk_at dksX8_get_0 2 rfl rfl)
theorem dX8_get_5 : decode cX8_get 5 = .ok (.iload_n 1, 1) := dk_27 (dk_at dksX8_get_0 5 rfl rfl)
theorem dX8_get_6 : decode cX8_get 6 = .ok (.invokevirtual 121, 3) := dk_182 0 121 (dk_at dksX8_get_0 6 rfl rfl)
theorem dX8_get_9 : decode cX8_get 9 = .ok (.istore_n 2, 1) := dk_61 (dk_at dksX8_get_0 9 rfl rfl)
theorem dX8_get_10 : decode cX8_get 10 = .ok (.iload_n 2, 1) := dk_28 (dk_at dksX8_get_0 10 rfl rfl)
theorem dX8_get_11 : decode cX8_get 11 = .ok (.iconst (-1), 1) := dk_2 (dk_at dksX8_get_0 11 rfl rfl)
theorem dX8_get_12 : decode cX8_get 12 = .ok (.if_icmp .ne 7, 3) := dk_160 0 7 (dk_at dksX8_get_0 12 rfl rfl)
theorem dX8_get_15 : decode cX8_get 15 = .ok (.iconst (-1), 1) := dk_2 (dk_at dksX8_get_0 15 rfl rfl)
theorem dX8_get_16 : decode cX8_get 16 = .ok (.goto 20, 3) := dk_167 0 20 (dk_at dksX8_get_0 16 rfl rfl)
theorem dX8_get_19 : decode cX8_get 19 = .ok (.aload_n 0, 1) := dk_42 (dk_at dksX8_get_0 19 rfl rfl)
theorem dX8_get_20 : decode cX8_get 20 = .ok (.iload_n 1, 1) := dk_27 (dk_at dksX8_get_0 20 rfl rfl)
theorem dX8_get_21 : decode cX8_get 21 = .ok (.invokevirtual 114, 3) := dk_182 0 114 (dk_at dksX8_get_0 21 rfl rfl)
theorem dX8_get_24 : decode cX8_get 24 = .ok (.getfield 124, 3) := dk_180 0 124 (dk_at dksX8_get_1 0 rfl rfl)
theorem dX8_get_27 : decode cX8_get 27 = .ok (.iload_n 2, 1) := dk_28 (dk_at dksX8_get_1 3 rfl rfl)
theorem dX8_get_28 : decode cX8_get 28 = .ok (.invokevirtual 107, 3) := dk_182 0 107 (dk_at dksX8_get_1 4 rfl rfl)
theorem dX8_get_31 : decode cX8_get 31 = .ok (.checkcast 127, 3) := dk_192 0 127 (dk_at dksX8_get_1 7 rfl rfl)
theorem dX8_get_34 : decode cX8_get 34 = .ok (.iconst 1, 1) := dk_4 (dk_at dksX8_get_1 10 rfl rfl)
theorem dX8_get_35 : decode cX8_get 35 = .ok (.iaload, 1) := dk_46 (dk_at dksX8_get_1 11 rfl rfl)
theorem dX8_get_36 : decode cX8_get 36 = .ok (.ireturn, 1) := dk_172 (dk_at dksX8_get_1 12 rfl rfl)
abbrev cX8_of : ByteArray := prog_17_method_8_code
def yX8_of : MethodName := ⟨RX8, "of", "(I)LSplitpointerModel$Bucket;"⟩
def dkwX8_of_0 : List UInt8 := [42, 180, 0, 24, 42, 27, 182, 0, 93, 42, 182, 0, 100, 184, 0, 103, 182, 0, 107, 192, 0, 63, 176]
abbrev dktX8_of_0 : List UInt8 := dkwX8_of_0 ++ []
theorem dksX8_of_0 : cX8_of.data.toList.drop 0 = dktX8_of_0 := by decide +kernel
theorem dX8_of_0 : decode cX8_of 0 = .ok (.aload_n 0, 1) := dk_42 (dk_at dksX8_of_0 0 rfl rfl)
theorem dX8_of_1 : decode cX8_of 1 = .ok (.getfield 24, 3) := dk_180 0 24 (dk_at dksX8_of_0 1 rfl rfl)
theorem dX8_of_4 : decode cX8_of 4 = .ok (.aload_n 0, 1) := dk_42 (dk_at dksX8_of_0 4 rfl rfl)
theorem dX8_of_5 : decode cX8_of 5 = .ok (.iload_n 1, 1) := dk_27 (dk_at dksX8_of_0 5 rfl rfl)
theorem dX8_of_6 : decode cX8_of 6 = .ok (.invokevirtual 93, 3) := dk_182 0 93 (dk_at dksX8_of_0 6 rfl rfl)
theorem dX8_of_9 : decode cX8_of 9 = .ok (.aload_n 0, 1) := dk_42 (dk_at dksX8_of_0 9 rfl rfl)
theorem dX8_of_10 : decode cX8_of 10 = .ok (.invokevirtual 100, 3) := dk_182 0 100 (dk_at dksX8_of_0 10 rfl rfl)
theorem dX8_of_13 : decode cX8_of 13 = .ok (.invokestatic 103, 3) := dk_184 0 103 (dk_at dksX8_of_0 13 rfl rfl)
theorem dX8_of_16 : decode cX8_of 16 = .ok (.invokevirtual 107, 3) := dk_182 0 107 (dk_at dksX8_of_0 16 rfl rfl)
theorem dX8_of_19 : decode cX8_of 19 = .ok (.checkcast 63, 3) := dk_192 0 63 (dk_at dksX8_of_0 19 rfl rfl)
theorem dX8_of_22 : decode cX8_of 22 = .ok (.areturn, 1) := dk_176 (dk_at dksX8_of_0 22 rfl rfl)
abbrev cX8_hash : ByteArray := prog_17_method_6_code
def yX8_hash : MethodName := ⟨RX8, "hash", "(I)I"⟩
def dkwX8_hash_3 : List UInt8 := [42, 180, 0, 37, 104, 17, 4, 0, 112, 130, 172]
abbrev dktX8_hash_3 : List UInt8 := dkwX8_hash_3 ++ []
def dkwX8_hash_2 : List UInt8 := [126, 21, 4, 120, 128, 62, 44, 21, 5, 92, 46, 4, 122, 79, 132, 4, 1, 167, 255, 215, 29, 17, 1, 141]
abbrev dktX8_hash_2 : List UInt8 := dkwX8_hash_2 ++ dktX8_hash_3
def dkwX8_hash_1 : List UInt8 := [21, 4, 16, 10, 162, 0, 40, 42, 180, 0, 18, 21, 4, 122, 4, 126, 54, 5, 29, 44, 21, 5, 46, 4]
abbrev dktX8_hash_1 : List UInt8 := dkwX8_hash_1 ++ dktX8_hash_2
def dkwX8_hash_0 : List UInt8 := [5, 188, 10, 89, 3, 27, 16, 100, 112, 79, 89, 4, 27, 16, 100, 108, 79, 77, 3, 62, 3, 54, 4]
abbrev dktX8_hash_0 : List UInt8 := dkwX8_hash_0 ++ dktX8_hash_1
theorem dksX8_hash_0 : cX8_hash.data.toList.drop 0 = dktX8_hash_0 := by decide +kernel
theorem dksX8_hash_1 : cX8_hash.data.toList.drop 23 = dktX8_hash_1 := dk_seg dksX8_hash_0 23 rfl rfl
theorem dksX8_hash_2 : cX8_hash.data.toList.drop 47 = dktX8_hash_2 := dk_seg dksX8_hash_1 24 rfl rfl
theorem dksX8_hash_3 : cX8_hash.data.toList.drop 71 = dktX8_hash_3 := dk_seg dksX8_hash_2 24 rfl rfl
theorem dX8_hash_0 : decode cX8_hash 0 = .ok (.iconst 2, 1) := dk_5 (dk_at dksX8_hash_0 0 rfl rfl)
theorem dX8_hash_1 : decode cX8_hash 1 = .ok (.newarray .int, 2) := dk_188_10 (dk_at dksX8_hash_0 1 rfl rfl)
theorem dX8_hash_3 : decode cX8_hash 3 = .ok (.dup, 1) := dk_89 (dk_at dksX8_hash_0 3 rfl rfl)
theorem dX8_hash_4 : decode cX8_hash 4 = .ok (.iconst 0, 1) := dk_3 (dk_at dksX8_hash_0 4 rfl rfl)
theorem dX8_hash_5 : decode cX8_hash 5 = .ok (.iload_n 1, 1) := dk_27 (dk_at dksX8_hash_0 5 rfl rfl)
theorem dX8_hash_6 : decode cX8_hash 6 = .ok (.bipush 100, 2) := dk_16 100 (dk_at dksX8_hash_0 6 rfl rfl)
theorem dX8_hash_8 : decode cX8_hash 8 = .ok (.irem, 1) := dk_112 (dk_at dksX8_hash_0 8 rfl rfl)
theorem dX8_hash_9 : decode cX8_hash 9 = .ok (.iastore, 1) := dk_79 (dk_at dksX8_hash_0 9 rfl rfl)
theorem dX8_hash_10 : decode cX8_hash 10 = .ok (.dup, 1) := dk_89 (dk_at dksX8_hash_0 10 rfl rfl)
theorem dX8_hash_11 : decode cX8_hash 11 = .ok (.iconst 1, 1) := dk_4 (dk_at dksX8_hash_0 11 rfl rfl)
theorem dX8_hash_12 : decode cX8_hash 12 = .ok (.iload_n 1, 1) := dk_27 (dk_at dksX8_hash_0 12 rfl rfl)
theorem dX8_hash_13 : decode cX8_hash 13 = .ok (.bipush 100, 2) := dk_16 100 (dk_at dksX8_hash_0 13 rfl rfl)
theorem dX8_hash_15 : decode cX8_hash 15 = .ok (.idiv, 1) := dk_108 (dk_at dksX8_hash_0 15 rfl rfl)
theorem dX8_hash_16 : decode cX8_hash 16 = .ok (.iastore, 1) := dk_79 (dk_at dksX8_hash_0 16 rfl rfl)
theorem dX8_hash_17 : decode cX8_hash 17 = .ok (.astore_n 2, 1) := dk_77 (dk_at dksX8_hash_0 17 rfl rfl)
theorem dX8_hash_18 : decode cX8_hash 18 = .ok (.iconst 0, 1) := dk_3 (dk_at dksX8_hash_0 18 rfl rfl)
theorem dX8_hash_19 : decode cX8_hash 19 = .ok (.istore_n 3, 1) := dk_62 (dk_at dksX8_hash_0 19 rfl rfl)
theorem dX8_hash_20 : decode cX8_hash 20 = .ok (.iconst 0, 1) := dk_3 (dk_at dksX8_hash_0 20 rfl rfl)
theorem dX8_hash_21 : decode cX8_hash 21 = .ok (.istore 4, 2) := dk_54 4 (dk_at dksX8_hash_0 21 rfl rfl)
theorem dX8_hash_23 : decode cX8_hash 23 = .ok (.iload 4, 2) := dk_21 4 (dk_at dksX8_hash_1 0 rfl rfl)
theorem dX8_hash_25 : decode cX8_hash 25 = .ok (.bipush 10, 2) := dk_16 10 (dk_at dksX8_hash_1 2 rfl rfl)
theorem dX8_hash_27 : decode cX8_hash 27 = .ok (.if_icmp .ge 40, 3) := dk_162 0 40 (dk_at dksX8_hash_1 4 rfl rfl)
theorem dX8_hash_30 : decode cX8_hash 30 = .ok (.aload_n 0, 1) := dk_42 (dk_at dksX8_hash_1 7 rfl rfl)
theorem dX8_hash_31 : decode cX8_hash 31 = .ok (.getfield 18, 3) := dk_180 0 18 (dk_at dksX8_hash_1 8 rfl rfl)
theorem dX8_hash_34 : decode cX8_hash 34 = .ok (.iload 4, 2) := dk_21 4 (dk_at dksX8_hash_1 11 rfl rfl)
theorem dX8_hash_36 : decode cX8_hash 36 = .ok (.ishr, 1) := dk_122 (dk_at dksX8_hash_1 13 rfl rfl)
theorem dX8_hash_37 : decode cX8_hash 37 = .ok (.iconst 1, 1) := dk_4 (dk_at dksX8_hash_1 14 rfl rfl)
theorem dX8_hash_38 : decode cX8_hash 38 = .ok (.iand, 1) := dk_126 (dk_at dksX8_hash_1 15 rfl rfl)
theorem dX8_hash_39 : decode cX8_hash 39 = .ok (.istore 5, 2) := dk_54 5 (dk_at dksX8_hash_1 16 rfl rfl)
theorem dX8_hash_41 : decode cX8_hash 41 = .ok (.iload_n 3, 1) := dk_29 (dk_at dksX8_hash_1 18 rfl rfl)
theorem dX8_hash_42 : decode cX8_hash 42 = .ok (.aload_n 2, 1) := dk_44 (dk_at dksX8_hash_1 19 rfl rfl)
theorem dX8_hash_43 : decode cX8_hash 43 = .ok (.iload 5, 2) := dk_21 5 (dk_at dksX8_hash_1 20 rfl rfl)
theorem dX8_hash_45 : decode cX8_hash 45 = .ok (.iaload, 1) := dk_46 (dk_at dksX8_hash_1 22 rfl rfl)
theorem dX8_hash_46 : decode cX8_hash 46 = .ok (.iconst 1, 1) := dk_4 (dk_at dksX8_hash_1 23 rfl rfl)
theorem dX8_hash_47 : decode cX8_hash 47 = .ok (.iand, 1) := dk_126 (dk_at dksX8_hash_2 0 rfl rfl)
theorem dX8_hash_48 : decode cX8_hash 48 = .ok (.iload 4, 2) := dk_21 4 (dk_at dksX8_hash_2 1 rfl rfl)
theorem dX8_hash_50 : decode cX8_hash 50 = .ok (.ishl, 1) := dk_120 (dk_at dksX8_hash_2 3 rfl rfl)
theorem dX8_hash_51 : decode cX8_hash 51 = .ok (.ior, 1) := dk_128 (dk_at dksX8_hash_2 4 rfl rfl)
theorem dX8_hash_52 : decode cX8_hash 52 = .ok (.istore_n 3, 1) := dk_62 (dk_at dksX8_hash_2 5 rfl rfl)
theorem dX8_hash_53 : decode cX8_hash 53 = .ok (.aload_n 2, 1) := dk_44 (dk_at dksX8_hash_2 6 rfl rfl)
theorem dX8_hash_54 : decode cX8_hash 54 = .ok (.iload 5, 2) := dk_21 5 (dk_at dksX8_hash_2 7 rfl rfl)
theorem dX8_hash_56 : decode cX8_hash 56 = .ok (.dup2, 1) := dk_92 (dk_at dksX8_hash_2 9 rfl rfl)
theorem dX8_hash_57 : decode cX8_hash 57 = .ok (.iaload, 1) := dk_46 (dk_at dksX8_hash_2 10 rfl rfl)
theorem dX8_hash_58 : decode cX8_hash 58 = .ok (.iconst 1, 1) := dk_4 (dk_at dksX8_hash_2 11 rfl rfl)
theorem dX8_hash_59 : decode cX8_hash 59 = .ok (.ishr, 1) := dk_122 (dk_at dksX8_hash_2 12 rfl rfl)
theorem dX8_hash_60 : decode cX8_hash 60 = .ok (.iastore, 1) := dk_79 (dk_at dksX8_hash_2 13 rfl rfl)
theorem dX8_hash_61 : decode cX8_hash 61 = .ok (.iinc 4 1, 3) := dk_132 4 1 (dk_at dksX8_hash_2 14 rfl rfl)
theorem dX8_hash_64 : decode cX8_hash 64 = .ok (.goto (-41), 3) := dk_167 255 215 (dk_at dksX8_hash_2 17 rfl rfl)
theorem dX8_hash_67 : decode cX8_hash 67 = .ok (.iload_n 3, 1) := dk_29 (dk_at dksX8_hash_2 20 rfl rfl)
theorem dX8_hash_68 : decode cX8_hash 68 = .ok (.sipush 397, 3) := dk_17 1 141 (dk_at dksX8_hash_2 21 rfl rfl)
theorem dX8_hash_71 : decode cX8_hash 71 = .ok (.aload_n 0, 1) := dk_42 (dk_at dksX8_hash_3 0 rfl rfl)
theorem dX8_hash_72 : decode cX8_hash 72 = .ok (.getfield 37, 3) := dk_180 0 37 (dk_at dksX8_hash_3 1 rfl rfl)
theorem dX8_hash_75 : decode cX8_hash 75 = .ok (.imul, 1) := dk_104 (dk_at dksX8_hash_3 4 rfl rfl)
theorem dX8_hash_76 : decode cX8_hash 76 = .ok (.sipush 1024, 3) := dk_17 4 0 (dk_at dksX8_hash_3 5 rfl rfl)
theorem dX8_hash_79 : decode cX8_hash 79 = .ok (.irem, 1) := dk_112 (dk_at dksX8_hash_3 8 rfl rfl)
theorem dX8_hash_80 : decode cX8_hash 80 = .ok (.ixor, 1) := dk_130 (dk_at dksX8_hash_3 9 rfl rfl)
theorem dX8_hash_81 : decode cX8_hash 81 = .ok (.ireturn, 1) := dk_172 (dk_at dksX8_hash_3 10 rfl rfl)
abbrev cX8_many : ByteArray := prog_17_method_5_code
def yX8_many : MethodName := ⟨RX8, "many", "()I"⟩
def dkwX8_many_0 : List UInt8 := [42, 180, 0, 24, 182, 0, 90, 172]
abbrev dktX8_many_0 : List UInt8 := dkwX8_many_0 ++ []
theorem dksX8_many_0 : cX8_many.data.toList.drop 0 = dktX8_many_0 := by decide +kernel
theorem dX8_many_0 : decode cX8_many 0 = .ok (.aload_n 0, 1) := dk_42 (dk_at dksX8_many_0 0 rfl rfl)
theorem dX8_many_1 : decode cX8_many 1 = .ok (.getfield 24, 3) := dk_180 0 24 (dk_at dksX8_many_0 1 rfl rfl)
theorem dX8_many_4 : decode cX8_many 4 = .ok (.invokevirtual 90, 3) := dk_182 0 90 (dk_at dksX8_many_0 4 rfl rfl)
theorem dX8_many_7 : decode cX8_many 7 = .ok (.ireturn, 1) := dk_172 (dk_at dksX8_many_0 7 rfl rfl)
abbrev cX8_append : ByteArray := prog_17_method_16_code
def yX8_append : MethodName := ⟨RX8, "append", "([I)V"⟩
def dkwX8_append_3 : List UInt8 := [181, 0, 118, 177]
abbrev dktX8_append_3 : List UInt8 := dkwX8_append_3 ++ []
def dkwX8_append_2 : List UInt8 := [180, 0, 124, 43, 182, 0, 69, 87, 44, 89, 180, 0, 118, 42, 43, 3, 46, 182, 0, 93, 184, 0, 111, 128]
abbrev dktX8_append_2 : List UInt8 := dkwX8_append_2 ++ dktX8_append_3
def dkwX8_append_1 : List UInt8 := [182, 0, 90, 104, 160, 0, 18, 44, 180, 0, 73, 42, 182, 0, 86, 184, 0, 76, 182, 0, 69, 87, 44]
abbrev dktX8_append_1 : List UInt8 := dkwX8_append_1 ++ dktX8_append_2
def dkwX8_append_0 : List UInt8 := [42, 43, 3, 46, 182, 0, 114, 77, 44, 180, 0, 124, 182, 0, 90, 42, 180, 0, 28, 44, 180, 0, 73]
abbrev dktX8_append_0 : List UInt8 := dkwX8_append_0 ++ dktX8_append_1
theorem dksX8_append_0 : cX8_append.data.toList.drop 0 = dktX8_append_0 := by decide +kernel
theorem dksX8_append_1 : cX8_append.data.toList.drop 23 = dktX8_append_1 := dk_seg dksX8_append_0 23 rfl rfl
theorem dksX8_append_2 : cX8_append.data.toList.drop 46 = dktX8_append_2 := dk_seg dksX8_append_1 23 rfl rfl
theorem dksX8_append_3 : cX8_append.data.toList.drop 70 = dktX8_append_3 := dk_seg dksX8_append_2 24 rfl rfl
theorem dX8_append_0 : decode cX8_append 0 = .ok (.aload_n 0, 1) := dk_42 (dk_at dksX8_append_0 0 rfl rfl)
theorem dX8_append_1 : decode cX8_append 1 = .ok (.aload_n 1, 1) := dk_43 (dk_at dksX8_append_0 1 rfl rfl)
theorem dX8_append_2 : decode cX8_append 2 = .ok (.iconst 0, 1) := dk_3 (dk_at dksX8_append_0 2 rfl rfl)
theorem dX8_append_3 : decode cX8_append 3 = .ok (.iaload, 1) := dk_46 (dk_at dksX8_append_0 3 rfl rfl)
theorem dX8_append_4 : decode cX8_append 4 = .ok (.invokevirtual 114, 3) := dk_182 0 114 (dk_at dksX8_append_0 4 rfl rfl)
theorem dX8_append_7 : decode cX8_append 7 = .ok (.astore_n 2, 1) := dk_77 (dk_at dksX8_append_0 7 rfl rfl)
theorem dX8_append_8 : decode cX8_append 8 = .ok (.aload_n 2, 1) := dk_44 (dk_at dksX8_append_0 8 rfl rfl)
theorem dX8_append_9 : decode cX8_append 9 = .ok (.getfield 124, 3) := dk_180 0 124 (dk_at dksX8_append_0 9 rfl rfl)
theorem dX8_append_12 : decode cX8_append 12 = .ok (.invokevirtual 90, 3) := dk_182 0 90 (dk_at dksX8_append_0 12 rfl rfl)
theorem dX8_append_15 : decode cX8_append 15 = .ok (.aload_n 0, 1) := dk_42 (dk_at dksX8_append_0 15 rfl rfl)
theorem dX8_append_16 : decode cX8_append 16 = .ok (.getfield 28, 3) := dk_180 0 28 (dk_at dksX8_append_0 16 rfl rfl)
theorem dX8_append_19 : decode cX8_append 19 = .ok (.aload_n 2, 1) := dk_44 (dk_at dksX8_append_0 19 rfl rfl)
theorem dX8_append_20 : decode cX8_append 20 = .ok (.getfield 73, 3) := dk_180 0 73 (dk_at dksX8_append_0 20 rfl rfl)
theorem dX8_append_23 : decode cX8_append 23 = .ok (.invokevirtual 90, 3) := dk_182 0 90 (dk_at dksX8_append_1 0 rfl rfl)
theorem dX8_append_26 : decode cX8_append 26 = .ok (.imul, 1) := dk_104 (dk_at dksX8_append_1 3 rfl rfl)
theorem dX8_append_27 : decode cX8_append 27 = .ok (.if_icmp .ne 18, 3) := dk_160 0 18 (dk_at dksX8_append_1 4 rfl rfl)
theorem dX8_append_30 : decode cX8_append 30 = .ok (.aload_n 2, 1) := dk_44 (dk_at dksX8_append_1 7 rfl rfl)
theorem dX8_append_31 : decode cX8_append 31 = .ok (.getfield 73, 3) := dk_180 0 73 (dk_at dksX8_append_1 8 rfl rfl)
theorem dX8_append_34 : decode cX8_append 34 = .ok (.aload_n 0, 1) := dk_42 (dk_at dksX8_append_1 11 rfl rfl)
theorem dX8_append_35 : decode cX8_append 35 = .ok (.invokevirtual 86, 3) := dk_182 0 86 (dk_at dksX8_append_1 12 rfl rfl)
theorem dX8_append_38 : decode cX8_append 38 = .ok (.invokestatic 76, 3) := dk_184 0 76 (dk_at dksX8_append_1 15 rfl rfl)
theorem dX8_append_41 : decode cX8_append 41 = .ok (.invokevirtual 69, 3) := dk_182 0 69 (dk_at dksX8_append_1 18 rfl rfl)
theorem dX8_append_44 : decode cX8_append 44 = .ok (.pop, 1) := dk_87 (dk_at dksX8_append_1 21 rfl rfl)
theorem dX8_append_45 : decode cX8_append 45 = .ok (.aload_n 2, 1) := dk_44 (dk_at dksX8_append_1 22 rfl rfl)
theorem dX8_append_46 : decode cX8_append 46 = .ok (.getfield 124, 3) := dk_180 0 124 (dk_at dksX8_append_2 0 rfl rfl)
theorem dX8_append_49 : decode cX8_append 49 = .ok (.aload_n 1, 1) := dk_43 (dk_at dksX8_append_2 3 rfl rfl)
theorem dX8_append_50 : decode cX8_append 50 = .ok (.invokevirtual 69, 3) := dk_182 0 69 (dk_at dksX8_append_2 4 rfl rfl)
theorem dX8_append_53 : decode cX8_append 53 = .ok (.pop, 1) := dk_87 (dk_at dksX8_append_2 7 rfl rfl)
theorem dX8_append_54 : decode cX8_append 54 = .ok (.aload_n 2, 1) := dk_44 (dk_at dksX8_append_2 8 rfl rfl)
theorem dX8_append_55 : decode cX8_append 55 = .ok (.dup, 1) := dk_89 (dk_at dksX8_append_2 9 rfl rfl)
theorem dX8_append_56 : decode cX8_append 56 = .ok (.getfield 118, 3) := dk_180 0 118 (dk_at dksX8_append_2 10 rfl rfl)
theorem dX8_append_59 : decode cX8_append 59 = .ok (.aload_n 0, 1) := dk_42 (dk_at dksX8_append_2 13 rfl rfl)
theorem dX8_append_60 : decode cX8_append 60 = .ok (.aload_n 1, 1) := dk_43 (dk_at dksX8_append_2 14 rfl rfl)
theorem dX8_append_61 : decode cX8_append 61 = .ok (.iconst 0, 1) := dk_3 (dk_at dksX8_append_2 15 rfl rfl)
theorem dX8_append_62 : decode cX8_append 62 = .ok (.iaload, 1) := dk_46 (dk_at dksX8_append_2 16 rfl rfl)
theorem dX8_append_63 : decode cX8_append 63 = .ok (.invokevirtual 93, 3) := dk_182 0 93 (dk_at dksX8_append_2 17 rfl rfl)
theorem dX8_append_66 : decode cX8_append 66 = .ok (.invokestatic 111, 3) := dk_184 0 111 (dk_at dksX8_append_2 20 rfl rfl)
theorem dX8_append_69 : decode cX8_append 69 = .ok (.ior, 1) := dk_128 (dk_at dksX8_append_2 23 rfl rfl)
theorem dX8_append_70 : decode cX8_append 70 = .ok (.putfield 118, 3) := dk_181 0 118 (dk_at dksX8_append_3 0 rfl rfl)
theorem dX8_append_73 : decode cX8_append 73 = .ok (.return_, 1) := dk_177 (dk_at dksX8_append_3 3 rfl rfl)
abbrev cX8_load : ByteArray := prog_17_method_13_code
def yX8_load : MethodName := ⟨RX8, "load", "()I"⟩
def dkwX8_load_0 : List UInt8 := [16, 100, 42, 182, 0, 133, 104, 42, 182, 0, 100, 42, 180, 0, 28, 104, 108, 172]
abbrev dktX8_load_0 : List UInt8 := dkwX8_load_0 ++ []
theorem dksX8_load_0 : cX8_load.data.toList.drop 0 = dktX8_load_0 := by decide +kernel
theorem dX8_load_0 : decode cX8_load 0 = .ok (.bipush 100, 2) := dk_16 100 (dk_at dksX8_load_0 0 rfl rfl)
theorem dX8_load_2 : decode cX8_load 2 = .ok (.aload_n 0, 1) := dk_42 (dk_at dksX8_load_0 2 rfl rfl)
theorem dX8_load_3 : decode cX8_load 3 = .ok (.invokevirtual 133, 3) := dk_182 0 133 (dk_at dksX8_load_0 3 rfl rfl)
theorem dX8_load_6 : decode cX8_load 6 = .ok (.imul, 1) := dk_104 (dk_at dksX8_load_0 6 rfl rfl)
theorem dX8_load_7 : decode cX8_load 7 = .ok (.aload_n 0, 1) := dk_42 (dk_at dksX8_load_0 7 rfl rfl)
theorem dX8_load_8 : decode cX8_load 8 = .ok (.invokevirtual 100, 3) := dk_182 0 100 (dk_at dksX8_load_0 8 rfl rfl)
theorem dX8_load_11 : decode cX8_load 11 = .ok (.aload_n 0, 1) := dk_42 (dk_at dksX8_load_0 11 rfl rfl)
theorem dX8_load_12 : decode cX8_load 12 = .ok (.getfield 28, 3) := dk_180 0 28 (dk_at dksX8_load_0 12 rfl rfl)
theorem dX8_load_15 : decode cX8_load 15 = .ok (.imul, 1) := dk_104 (dk_at dksX8_load_0 15 rfl rfl)
theorem dX8_load_16 : decode cX8_load 16 = .ok (.idiv, 1) := dk_108 (dk_at dksX8_load_0 16 rfl rfl)
theorem dX8_load_17 : decode cX8_load 17 = .ok (.ireturn, 1) := dk_172 (dk_at dksX8_load_0 17 rfl rfl)
abbrev cX8_split : ByteArray := prog_17_method_18_code
def yX8_split : MethodName := ⟨RX8, "split", "()V"⟩
def dkwX8_split_4 : List UInt8 := [177]
abbrev dktX8_split_4 : List UInt8 := dkwX8_split_4 ++ []
def dkwX8_split_3 : List UInt8 := [192, 0, 127, 58, 4, 42, 25, 4, 182, 0, 154, 167, 255, 230, 42, 89, 180, 0, 40, 4, 96, 181, 0, 40]
abbrev dktX8_split_3 : List UInt8 := dkwX8_split_3 ++ dktX8_split_4
def dkwX8_split_2 : List UInt8 := [42, 182, 0, 31, 44, 182, 0, 49, 78, 45, 185, 0, 53, 1, 0, 153, 0, 23, 45, 185, 0, 59, 1, 0]
abbrev dktX8_split_2 : List UInt8 := dkwX8_split_2 ++ dktX8_split_3
def dkwX8_split_1 : List UInt8 := [180, 0, 124, 183, 0, 147, 77, 43, 180, 0, 124, 182, 0, 46, 43, 3, 181, 0, 118, 42, 43, 182, 0, 150]
abbrev dktX8_split_1 : List UInt8 := dkwX8_split_1 ++ dktX8_split_2
def dkwX8_split_0 : List UInt8 := [42, 180, 0, 24, 42, 182, 0, 100, 184, 0, 144, 182, 0, 107, 192, 0, 63, 76, 187, 0, 21, 89, 43]
abbrev dktX8_split_0 : List UInt8 := dkwX8_split_0 ++ dktX8_split_1
theorem dksX8_split_0 : cX8_split.data.toList.drop 0 = dktX8_split_0 := by decide +kernel
theorem dksX8_split_1 : cX8_split.data.toList.drop 23 = dktX8_split_1 := dk_seg dksX8_split_0 23 rfl rfl
theorem dksX8_split_2 : cX8_split.data.toList.drop 47 = dktX8_split_2 := dk_seg dksX8_split_1 24 rfl rfl
theorem dksX8_split_3 : cX8_split.data.toList.drop 71 = dktX8_split_3 := dk_seg dksX8_split_2 24 rfl rfl
theorem dksX8_split_4 : cX8_split.data.toList.drop 95 = dktX8_split_4 := dk_seg dksX8_split_3 24 rfl rfl
theorem dX8_split_0 : decode cX8_split 0 = .ok (.aload_n 0, 1) := dk_42 (dk_at dksX8_split_0 0 rfl rfl)
theorem dX8_split_1 : decode cX8_split 1 = .ok (.getfield 24, 3) := dk_180 0 24 (dk_at dksX8_split_0 1 rfl rfl)
theorem dX8_split_4 : decode cX8_split 4 = .ok (.aload_n 0, 1) := dk_42 (dk_at dksX8_split_0 4 rfl rfl)
theorem dX8_split_5 : decode cX8_split 5 = .ok (.invokevirtual 100, 3) := dk_182 0 100 (dk_at dksX8_split_0 5 rfl rfl)
theorem dX8_split_8 : decode cX8_split 8 = .ok (.invokestatic 144, 3) := dk_184 0 144 (dk_at dksX8_split_0 8 rfl rfl)
theorem dX8_split_11 : decode cX8_split 11 = .ok (.invokevirtual 107, 3) := dk_182 0 107 (dk_at dksX8_split_0 11 rfl rfl)
theorem dX8_split_14 : decode cX8_split 14 = .ok (.checkcast 63, 3) := dk_192 0 63 (dk_at dksX8_split_0 14 rfl rfl)
theorem dX8_split_17 : decode cX8_split 17 = .ok (.astore_n 1, 1) := dk_76 (dk_at dksX8_split_0 17 rfl rfl)
theorem dX8_split_18 : decode cX8_split 18 = .ok (.new 21, 3) := dk_187 0 21 (dk_at dksX8_split_0 18 rfl rfl)
theorem dX8_split_21 : decode cX8_split 21 = .ok (.dup, 1) := dk_89 (dk_at dksX8_split_0 21 rfl rfl)
theorem dX8_split_22 : decode cX8_split 22 = .ok (.aload_n 1, 1) := dk_43 (dk_at dksX8_split_0 22 rfl rfl)
theorem dX8_split_23 : decode cX8_split 23 = .ok (.getfield 124, 3) := dk_180 0 124 (dk_at dksX8_split_1 0 rfl rfl)
theorem dX8_split_26 : decode cX8_split 26 = .ok (.invokespecial 147, 3) := dk_183 0 147 (dk_at dksX8_split_1 3 rfl rfl)
theorem dX8_split_29 : decode cX8_split 29 = .ok (.astore_n 2, 1) := dk_77 (dk_at dksX8_split_1 6 rfl rfl)
theorem dX8_split_30 : decode cX8_split 30 = .ok (.aload_n 1, 1) := dk_43 (dk_at dksX8_split_1 7 rfl rfl)
theorem dX8_split_31 : decode cX8_split 31 = .ok (.getfield 124, 3) := dk_180 0 124 (dk_at dksX8_split_1 8 rfl rfl)
theorem dX8_split_34 : decode cX8_split 34 = .ok (.invokevirtual 46, 3) := dk_182 0 46 (dk_at dksX8_split_1 11 rfl rfl)
theorem dX8_split_37 : decode cX8_split 37 = .ok (.aload_n 1, 1) := dk_43 (dk_at dksX8_split_1 14 rfl rfl)
theorem dX8_split_38 : decode cX8_split 38 = .ok (.iconst 0, 1) := dk_3 (dk_at dksX8_split_1 15 rfl rfl)
theorem dX8_split_39 : decode cX8_split 39 = .ok (.putfield 118, 3) := dk_181 0 118 (dk_at dksX8_split_1 16 rfl rfl)
theorem dX8_split_42 : decode cX8_split 42 = .ok (.aload_n 0, 1) := dk_42 (dk_at dksX8_split_1 19 rfl rfl)
theorem dX8_split_43 : decode cX8_split 43 = .ok (.aload_n 1, 1) := dk_43 (dk_at dksX8_split_1 20 rfl rfl)
theorem dX8_split_44 : decode cX8_split 44 = .ok (.invokevirtual 150, 3) := dk_182 0 150 (dk_at dksX8_split_1 21 rfl rfl)
theorem dX8_split_47 : decode cX8_split 47 = .ok (.aload_n 0, 1) := dk_42 (dk_at dksX8_split_2 0 rfl rfl)
theorem dX8_split_48 : decode cX8_split 48 = .ok (.invokevirtual 31, 3) := dk_182 0 31 (dk_at dksX8_split_2 1 rfl rfl)
theorem dX8_split_51 : decode cX8_split 51 = .ok (.aload_n 2, 1) := dk_44 (dk_at dksX8_split_2 4 rfl rfl)
theorem dX8_split_52 : decode cX8_split 52 = .ok (.invokevirtual 49, 3) := dk_182 0 49 (dk_at dksX8_split_2 5 rfl rfl)
theorem dX8_split_55 : decode cX8_split 55 = .ok (.astore_n 3, 1) := dk_78 (dk_at dksX8_split_2 8 rfl rfl)
theorem dX8_split_56 : decode cX8_split 56 = .ok (.aload_n 3, 1) := dk_45 (dk_at dksX8_split_2 9 rfl rfl)
theorem dX8_split_57 : decode cX8_split 57 = .ok (.invokeinterface 53 1, 5) := by decide +kernel
theorem dX8_split_62 : decode cX8_split 62 = .ok (.ifCond .eq 23, 3) := dk_153 0 23 (dk_at dksX8_split_2 15 rfl rfl)
theorem dX8_split_65 : decode cX8_split 65 = .ok (.aload_n 3, 1) := dk_45 (dk_at dksX8_split_2 18 rfl rfl)
theorem dX8_split_66 : decode cX8_split 66 = .ok (.invokeinterface 59 1, 5) := by decide +kernel
theorem dX8_split_71 : decode cX8_split 71 = .ok (.checkcast 127, 3) := dk_192 0 127 (dk_at dksX8_split_3 0 rfl rfl)
theorem dX8_split_74 : decode cX8_split 74 = .ok (.astore 4, 2) := dk_58 4 (dk_at dksX8_split_3 3 rfl rfl)
theorem dX8_split_76 : decode cX8_split 76 = .ok (.aload_n 0, 1) := dk_42 (dk_at dksX8_split_3 5 rfl rfl)
theorem dX8_split_77 : decode cX8_split 77 = .ok (.aload 4, 2) := dk_25 4 (dk_at dksX8_split_3 6 rfl rfl)
theorem dX8_split_79 : decode cX8_split 79 = .ok (.invokevirtual 154, 3) := dk_182 0 154 (dk_at dksX8_split_3 8 rfl rfl)
theorem dX8_split_82 : decode cX8_split 82 = .ok (.goto (-26), 3) := dk_167 255 230 (dk_at dksX8_split_3 11 rfl rfl)
theorem dX8_split_85 : decode cX8_split 85 = .ok (.aload_n 0, 1) := dk_42 (dk_at dksX8_split_3 14 rfl rfl)
theorem dX8_split_86 : decode cX8_split 86 = .ok (.dup, 1) := dk_89 (dk_at dksX8_split_3 15 rfl rfl)
theorem dX8_split_87 : decode cX8_split 87 = .ok (.getfield 40, 3) := dk_180 0 40 (dk_at dksX8_split_3 16 rfl rfl)
theorem dX8_split_90 : decode cX8_split 90 = .ok (.iconst 1, 1) := dk_4 (dk_at dksX8_split_3 19 rfl rfl)
theorem dX8_split_91 : decode cX8_split 91 = .ok (.iadd, 1) := dk_96 (dk_at dksX8_split_3 20 rfl rfl)
theorem dX8_split_92 : decode cX8_split 92 = .ok (.putfield 40, 3) := dk_181 0 40 (dk_at dksX8_split_3 21 rfl rfl)
theorem dX8_split_95 : decode cX8_split 95 = .ok (.return_, 1) := dk_177 (dk_at dksX8_split_4 0 rfl rfl)
abbrev cX8_trim : ByteArray := prog_17_method_17_code
def yX8_trim : MethodName := ⟨RX8, "trim", "(LSplitpointerModel$Bucket;)V"⟩
def dkwX8_trim_2 : List UInt8 := [182, 0, 141, 87, 167, 255, 204, 177]
abbrev dktX8_trim_2 : List UInt8 := dkwX8_trim_2 ++ []
def dkwX8_trim_1 : List UInt8 := [104, 43, 180, 0, 124, 182, 0, 90, 161, 0, 23, 43, 180, 0, 73, 43, 180, 0, 73, 182, 0, 90, 4, 100]
abbrev dktX8_trim_1 : List UInt8 := dkwX8_trim_1 ++ dktX8_trim_2
def dkwX8_trim_0 : List UInt8 := [43, 180, 0, 73, 182, 0, 90, 4, 164, 0, 47, 43, 180, 0, 73, 182, 0, 90, 4, 100, 42, 180, 0, 28]
abbrev dktX8_trim_0 : List UInt8 := dkwX8_trim_0 ++ dktX8_trim_1
theorem dksX8_trim_0 : cX8_trim.data.toList.drop 0 = dktX8_trim_0 := by decide +kernel
theorem dksX8_trim_1 : cX8_trim.data.toList.drop 24 = dktX8_trim_1 := dk_seg dksX8_trim_0 24 rfl rfl
theorem dksX8_trim_2 : cX8_trim.data.toList.drop 48 = dktX8_trim_2 := dk_seg dksX8_trim_1 24 rfl rfl
theorem dX8_trim_0 : decode cX8_trim 0 = .ok (.aload_n 1, 1) := dk_43 (dk_at dksX8_trim_0 0 rfl rfl)
theorem dX8_trim_1 : decode cX8_trim 1 = .ok (.getfield 73, 3) := dk_180 0 73 (dk_at dksX8_trim_0 1 rfl rfl)
theorem dX8_trim_4 : decode cX8_trim 4 = .ok (.invokevirtual 90, 3) := dk_182 0 90 (dk_at dksX8_trim_0 4 rfl rfl)
theorem dX8_trim_7 : decode cX8_trim 7 = .ok (.iconst 1, 1) := dk_4 (dk_at dksX8_trim_0 7 rfl rfl)
theorem dX8_trim_8 : decode cX8_trim 8 = .ok (.if_icmp .le 47, 3) := dk_164 0 47 (dk_at dksX8_trim_0 8 rfl rfl)
theorem dX8_trim_11 : decode cX8_trim 11 = .ok (.aload_n 1, 1) := dk_43 (dk_at dksX8_trim_0 11 rfl rfl)
theorem dX8_trim_12 : decode cX8_trim 12 = .ok (.getfield 73, 3) := dk_180 0 73 (dk_at dksX8_trim_0 12 rfl rfl)
theorem dX8_trim_15 : decode cX8_trim 15 = .ok (.invokevirtual 90, 3) := dk_182 0 90 (dk_at dksX8_trim_0 15 rfl rfl)
theorem dX8_trim_18 : decode cX8_trim 18 = .ok (.iconst 1, 1) := dk_4 (dk_at dksX8_trim_0 18 rfl rfl)
theorem dX8_trim_19 : decode cX8_trim 19 = .ok (.isub, 1) := dk_100 (dk_at dksX8_trim_0 19 rfl rfl)
theorem dX8_trim_20 : decode cX8_trim 20 = .ok (.aload_n 0, 1) := dk_42 (dk_at dksX8_trim_0 20 rfl rfl)
theorem dX8_trim_21 : decode cX8_trim 21 = .ok (.getfield 28, 3) := dk_180 0 28 (dk_at dksX8_trim_0 21 rfl rfl)
theorem dX8_trim_24 : decode cX8_trim 24 = .ok (.imul, 1) := dk_104 (dk_at dksX8_trim_1 0 rfl rfl)
theorem dX8_trim_25 : decode cX8_trim 25 = .ok (.aload_n 1, 1) := dk_43 (dk_at dksX8_trim_1 1 rfl rfl)
theorem dX8_trim_26 : decode cX8_trim 26 = .ok (.getfield 124, 3) := dk_180 0 124 (dk_at dksX8_trim_1 2 rfl rfl)
theorem dX8_trim_29 : decode cX8_trim 29 = .ok (.invokevirtual 90, 3) := dk_182 0 90 (dk_at dksX8_trim_1 5 rfl rfl)
theorem dX8_trim_32 : decode cX8_trim 32 = .ok (.if_icmp .lt 23, 3) := dk_161 0 23 (dk_at dksX8_trim_1 8 rfl rfl)
theorem dX8_trim_35 : decode cX8_trim 35 = .ok (.aload_n 1, 1) := dk_43 (dk_at dksX8_trim_1 11 rfl rfl)
theorem dX8_trim_36 : decode cX8_trim 36 = .ok (.getfield 73, 3) := dk_180 0 73 (dk_at dksX8_trim_1 12 rfl rfl)
theorem dX8_trim_39 : decode cX8_trim 39 = .ok (.aload_n 1, 1) := dk_43 (dk_at dksX8_trim_1 15 rfl rfl)
theorem dX8_trim_40 : decode cX8_trim 40 = .ok (.getfield 73, 3) := dk_180 0 73 (dk_at dksX8_trim_1 16 rfl rfl)
theorem dX8_trim_43 : decode cX8_trim 43 = .ok (.invokevirtual 90, 3) := dk_182 0 90 (dk_at dksX8_trim_1 19 rfl rfl)
theorem dX8_trim_46 : decode cX8_trim 46 = .ok (.iconst 1, 1) := dk_4 (dk_at dksX8_trim_1 22 rfl rfl)
theorem dX8_trim_47 : decode cX8_trim 47 = .ok (.isub, 1) := dk_100 (dk_at dksX8_trim_1 23 rfl rfl)
theorem dX8_trim_48 : decode cX8_trim 48 = .ok (.invokevirtual 141, 3) := dk_182 0 141 (dk_at dksX8_trim_2 0 rfl rfl)
theorem dX8_trim_51 : decode cX8_trim 51 = .ok (.pop, 1) := dk_87 (dk_at dksX8_trim_2 3 rfl rfl)
theorem dX8_trim_52 : decode cX8_trim 52 = .ok (.goto (-52), 3) := dk_167 255 204 (dk_at dksX8_trim_2 4 rfl rfl)
theorem dX8_trim_55 : decode cX8_trim 55 = .ok (.return_, 1) := dk_177 (dk_at dksX8_trim_2 7 rfl rfl)
abbrev cX8_drop : ByteArray := prog_17_method_21_code
def yX8_drop : MethodName := ⟨RX8, "drop", "(I)I"⟩
def dkwX8_drop_4 : List UInt8 := [167, 255, 233, 25, 5, 4, 46, 172]
abbrev dktX8_drop_4 : List UInt8 := dkwX8_drop_4 ++ []
def dkwX8_drop_3 : List UInt8 := [182, 0, 160, 42, 180, 0, 9, 162, 0, 18, 42, 182, 0, 100, 5, 164, 0, 10, 42, 182, 0, 170]
abbrev dktX8_drop_3 : List UInt8 := dkwX8_drop_3 ++ dktX8_drop_4
def dkwX8_drop_2 : List UInt8 := [29, 25, 4, 182, 0, 166, 192, 0, 127, 167, 0, 5, 25, 4, 58, 5, 42, 44, 182, 0, 150, 42]
abbrev dktX8_drop_2 : List UInt8 := dkwX8_drop_2 ++ dktX8_drop_3
def dkwX8_drop_1 : List UInt8 := [100, 182, 0, 141, 192, 0, 127, 58, 4, 29, 44, 180, 0, 124, 182, 0, 90, 162, 0, 19, 44, 180, 0, 124]
abbrev dktX8_drop_1 : List UInt8 := dkwX8_drop_1 ++ dktX8_drop_2
def dkwX8_drop_0 : List UInt8 := [42, 27, 182, 0, 114, 77, 44, 27, 182, 0, 121, 62, 44, 180, 0, 124, 44, 180, 0, 124, 182, 0, 90, 4]
abbrev dktX8_drop_0 : List UInt8 := dkwX8_drop_0 ++ dktX8_drop_1
theorem dksX8_drop_0 : cX8_drop.data.toList.drop 0 = dktX8_drop_0 := by decide +kernel
theorem dksX8_drop_1 : cX8_drop.data.toList.drop 24 = dktX8_drop_1 := dk_seg dksX8_drop_0 24 rfl rfl
theorem dksX8_drop_2 : cX8_drop.data.toList.drop 48 = dktX8_drop_2 := dk_seg dksX8_drop_1 24 rfl rfl
theorem dksX8_drop_3 : cX8_drop.data.toList.drop 70 = dktX8_drop_3 := dk_seg dksX8_drop_2 22 rfl rfl
theorem dksX8_drop_4 : cX8_drop.data.toList.drop 92 = dktX8_drop_4 := dk_seg dksX8_drop_3 22 rfl rfl
theorem dX8_drop_0 : decode cX8_drop 0 = .ok (.aload_n 0, 1) := dk_42 (dk_at dksX8_drop_0 0 rfl rfl)
theorem dX8_drop_1 : decode cX8_drop 1 = .ok (.iload_n 1, 1) := dk_27 (dk_at dksX8_drop_0 1 rfl rfl)
theorem dX8_drop_2 : decode cX8_drop 2 = .ok (.invokevirtual 114, 3) := dk_182 0 114 (dk_at dksX8_drop_0 2 rfl rfl)
theorem dX8_drop_5 : decode cX8_drop 5 = .ok (.astore_n 2, 1) := dk_77 (dk_at dksX8_drop_0 5 rfl rfl)
theorem dX8_drop_6 : decode cX8_drop 6 = .ok (.aload_n 2, 1) := dk_44 (dk_at dksX8_drop_0 6 rfl rfl)
theorem dX8_drop_7 : decode cX8_drop 7 = .ok (.iload_n 1, 1) := dk_27 (dk_at dksX8_drop_0 7 rfl rfl)
theorem dX8_drop_8 : decode cX8_drop 8 = .ok (.invokevirtual 121, 3) := dk_182 0 121 (dk_at dksX8_drop_0 8 rfl rfl)
theorem dX8_drop_11 : decode cX8_drop 11 = .ok (.istore_n 3, 1) := dk_62 (dk_at dksX8_drop_0 11 rfl rfl)
theorem dX8_drop_12 : decode cX8_drop 12 = .ok (.aload_n 2, 1) := dk_44 (dk_at dksX8_drop_0 12 rfl rfl)
theorem dX8_drop_13 : decode cX8_drop 13 = .ok (.getfield 124, 3) := dk_180 0 124 (dk_at dksX8_drop_0 13 rfl rfl)
theorem dX8_drop_16 : decode cX8_drop 16 = .ok (.aload_n 2, 1) := dk_44 (dk_at dksX8_drop_0 16 rfl rfl)
theorem dX8_drop_17 : decode cX8_drop 17 = .ok (.getfield 124, 3) := dk_180 0 124 (dk_at dksX8_drop_0 17 rfl rfl)
theorem dX8_drop_20 : decode cX8_drop 20 = .ok (.invokevirtual 90, 3) := dk_182 0 90 (dk_at dksX8_drop_0 20 rfl rfl)
theorem dX8_drop_23 : decode cX8_drop 23 = .ok (.iconst 1, 1) := dk_4 (dk_at dksX8_drop_0 23 rfl rfl)
theorem dX8_drop_24 : decode cX8_drop 24 = .ok (.isub, 1) := dk_100 (dk_at dksX8_drop_1 0 rfl rfl)
theorem dX8_drop_25 : decode cX8_drop 25 = .ok (.invokevirtual 141, 3) := dk_182 0 141 (dk_at dksX8_drop_1 1 rfl rfl)
theorem dX8_drop_28 : decode cX8_drop 28 = .ok (.checkcast 127, 3) := dk_192 0 127 (dk_at dksX8_drop_1 4 rfl rfl)
theorem dX8_drop_31 : decode cX8_drop 31 = .ok (.astore 4, 2) := dk_58 4 (dk_at dksX8_drop_1 7 rfl rfl)
theorem dX8_drop_33 : decode cX8_drop 33 = .ok (.iload_n 3, 1) := dk_29 (dk_at dksX8_drop_1 9 rfl rfl)
theorem dX8_drop_34 : decode cX8_drop 34 = .ok (.aload_n 2, 1) := dk_44 (dk_at dksX8_drop_1 10 rfl rfl)
theorem dX8_drop_35 : decode cX8_drop 35 = .ok (.getfield 124, 3) := dk_180 0 124 (dk_at dksX8_drop_1 11 rfl rfl)
theorem dX8_drop_38 : decode cX8_drop 38 = .ok (.invokevirtual 90, 3) := dk_182 0 90 (dk_at dksX8_drop_1 14 rfl rfl)
theorem dX8_drop_41 : decode cX8_drop 41 = .ok (.if_icmp .ge 19, 3) := dk_162 0 19 (dk_at dksX8_drop_1 17 rfl rfl)
theorem dX8_drop_44 : decode cX8_drop 44 = .ok (.aload_n 2, 1) := dk_44 (dk_at dksX8_drop_1 20 rfl rfl)
theorem dX8_drop_45 : decode cX8_drop 45 = .ok (.getfield 124, 3) := dk_180 0 124 (dk_at dksX8_drop_1 21 rfl rfl)
theorem dX8_drop_48 : decode cX8_drop 48 = .ok (.iload_n 3, 1) := dk_29 (dk_at dksX8_drop_2 0 rfl rfl)
theorem dX8_drop_49 : decode cX8_drop 49 = .ok (.aload 4, 2) := dk_25 4 (dk_at dksX8_drop_2 1 rfl rfl)
theorem dX8_drop_51 : decode cX8_drop 51 = .ok (.invokevirtual 166, 3) := dk_182 0 166 (dk_at dksX8_drop_2 3 rfl rfl)
theorem dX8_drop_54 : decode cX8_drop 54 = .ok (.checkcast 127, 3) := dk_192 0 127 (dk_at dksX8_drop_2 6 rfl rfl)
theorem dX8_drop_57 : decode cX8_drop 57 = .ok (.goto 5, 3) := dk_167 0 5 (dk_at dksX8_drop_2 9 rfl rfl)
theorem dX8_drop_60 : decode cX8_drop 60 = .ok (.aload 4, 2) := dk_25 4 (dk_at dksX8_drop_2 12 rfl rfl)
theorem dX8_drop_62 : decode cX8_drop 62 = .ok (.astore 5, 2) := dk_58 5 (dk_at dksX8_drop_2 14 rfl rfl)
theorem dX8_drop_64 : decode cX8_drop 64 = .ok (.aload_n 0, 1) := dk_42 (dk_at dksX8_drop_2 16 rfl rfl)
theorem dX8_drop_65 : decode cX8_drop 65 = .ok (.aload_n 2, 1) := dk_44 (dk_at dksX8_drop_2 17 rfl rfl)
theorem dX8_drop_66 : decode cX8_drop 66 = .ok (.invokevirtual 150, 3) := dk_182 0 150 (dk_at dksX8_drop_2 18 rfl rfl)
theorem dX8_drop_69 : decode cX8_drop 69 = .ok (.aload_n 0, 1) := dk_42 (dk_at dksX8_drop_2 21 rfl rfl)
theorem dX8_drop_70 : decode cX8_drop 70 = .ok (.invokevirtual 160, 3) := dk_182 0 160 (dk_at dksX8_drop_3 0 rfl rfl)
theorem dX8_drop_73 : decode cX8_drop 73 = .ok (.aload_n 0, 1) := dk_42 (dk_at dksX8_drop_3 3 rfl rfl)
theorem dX8_drop_74 : decode cX8_drop 74 = .ok (.getfield 9, 3) := dk_180 0 9 (dk_at dksX8_drop_3 4 rfl rfl)
theorem dX8_drop_77 : decode cX8_drop 77 = .ok (.if_icmp .ge 18, 3) := dk_162 0 18 (dk_at dksX8_drop_3 7 rfl rfl)
theorem dX8_drop_80 : decode cX8_drop 80 = .ok (.aload_n 0, 1) := dk_42 (dk_at dksX8_drop_3 10 rfl rfl)
theorem dX8_drop_81 : decode cX8_drop 81 = .ok (.invokevirtual 100, 3) := dk_182 0 100 (dk_at dksX8_drop_3 11 rfl rfl)
theorem dX8_drop_84 : decode cX8_drop 84 = .ok (.iconst 2, 1) := dk_5 (dk_at dksX8_drop_3 14 rfl rfl)
theorem dX8_drop_85 : decode cX8_drop 85 = .ok (.if_icmp .le 10, 3) := dk_164 0 10 (dk_at dksX8_drop_3 15 rfl rfl)
theorem dX8_drop_88 : decode cX8_drop 88 = .ok (.aload_n 0, 1) := dk_42 (dk_at dksX8_drop_3 18 rfl rfl)
theorem dX8_drop_89 : decode cX8_drop 89 = .ok (.invokevirtual 170, 3) := dk_182 0 170 (dk_at dksX8_drop_3 19 rfl rfl)
theorem dX8_drop_92 : decode cX8_drop 92 = .ok (.goto (-23), 3) := dk_167 255 233 (dk_at dksX8_drop_4 0 rfl rfl)
theorem dX8_drop_95 : decode cX8_drop 95 = .ok (.aload 5, 2) := dk_25 5 (dk_at dksX8_drop_4 3 rfl rfl)
theorem dX8_drop_97 : decode cX8_drop 97 = .ok (.iconst 1, 1) := dk_4 (dk_at dksX8_drop_4 5 rfl rfl)
theorem dX8_drop_98 : decode cX8_drop 98 = .ok (.iaload, 1) := dk_46 (dk_at dksX8_drop_4 6 rfl rfl)
theorem dX8_drop_99 : decode cX8_drop 99 = .ok (.ireturn, 1) := dk_172 (dk_at dksX8_drop_4 7 rfl rfl)
abbrev cX8_merge : ByteArray := prog_17_method_19_code
def yX8_merge : MethodName := ⟨RX8, "merge", "()V"⟩
def dkwX8_merge_5 : List UInt8 := [184, 0, 111, 128, 181, 0, 118, 167, 255, 216, 42, 89, 180, 0, 43, 4, 96, 181, 0, 43, 177]
abbrev dktX8_merge_5 : List UInt8 := dkwX8_merge_5 ++ []
def dkwX8_merge_4 : List UInt8 := [185, 0, 59, 1, 0, 192, 0, 127, 58, 4, 44, 89, 180, 0, 118, 42, 25, 4, 3, 46, 182, 0, 93]
abbrev dktX8_merge_4 : List UInt8 := dkwX8_merge_4 ++ dktX8_merge_5
def dkwX8_merge_3 : List UInt8 := [44, 3, 181, 0, 118, 44, 180, 0, 124, 182, 0, 49, 78, 45, 185, 0, 53, 1, 0, 153, 0, 37, 45]
abbrev dktX8_merge_3 : List UInt8 := dkwX8_merge_3 ++ dktX8_merge_4
def dkwX8_merge_2 : List UInt8 := [182, 0, 154, 167, 255, 232, 42, 180, 0, 24, 42, 182, 0, 100, 184, 0, 144, 182, 0, 107, 192, 0, 63, 77]
abbrev dktX8_merge_2 : List UInt8 := dkwX8_merge_2 ++ dktX8_merge_3
def dkwX8_merge_1 : List UInt8 := [77, 44, 185, 0, 53, 1, 0, 153, 0, 21, 44, 185, 0, 59, 1, 0, 192, 0, 127, 78, 42, 45]
abbrev dktX8_merge_1 : List UInt8 := dkwX8_merge_1 ++ dktX8_merge_2
def dkwX8_merge_0 : List UInt8 := [42, 180, 0, 24, 42, 182, 0, 100, 4, 100, 182, 0, 141, 192, 0, 63, 76, 43, 180, 0, 124, 182, 0, 49]
abbrev dktX8_merge_0 : List UInt8 := dkwX8_merge_0 ++ dktX8_merge_1
theorem dksX8_merge_0 : cX8_merge.data.toList.drop 0 = dktX8_merge_0 := by decide +kernel
theorem dksX8_merge_1 : cX8_merge.data.toList.drop 24 = dktX8_merge_1 := dk_seg dksX8_merge_0 24 rfl rfl
theorem dksX8_merge_2 : cX8_merge.data.toList.drop 46 = dktX8_merge_2 := dk_seg dksX8_merge_1 22 rfl rfl
theorem dksX8_merge_3 : cX8_merge.data.toList.drop 70 = dktX8_merge_3 := dk_seg dksX8_merge_2 24 rfl rfl
theorem dksX8_merge_4 : cX8_merge.data.toList.drop 93 = dktX8_merge_4 := dk_seg dksX8_merge_3 23 rfl rfl
theorem dksX8_merge_5 : cX8_merge.data.toList.drop 116 = dktX8_merge_5 := dk_seg dksX8_merge_4 23 rfl rfl
theorem dX8_merge_0 : decode cX8_merge 0 = .ok (.aload_n 0, 1) := dk_42 (dk_at dksX8_merge_0 0 rfl rfl)
theorem dX8_merge_1 : decode cX8_merge 1 = .ok (.getfield 24, 3) := dk_180 0 24 (dk_at dksX8_merge_0 1 rfl rfl)
theorem dX8_merge_4 : decode cX8_merge 4 = .ok (.aload_n 0, 1) := dk_42 (dk_at dksX8_merge_0 4 rfl rfl)
theorem dX8_merge_5 : decode cX8_merge 5 = .ok (.invokevirtual 100, 3) := dk_182 0 100 (dk_at dksX8_merge_0 5 rfl rfl)
theorem dX8_merge_8 : decode cX8_merge 8 = .ok (.iconst 1, 1) := dk_4 (dk_at dksX8_merge_0 8 rfl rfl)
theorem dX8_merge_9 : decode cX8_merge 9 = .ok (.isub, 1) := dk_100 (dk_at dksX8_merge_0 9 rfl rfl)
theorem dX8_merge_10 : decode cX8_merge 10 = .ok (.invokevirtual 141, 3) := dk_182 0 141 (dk_at dksX8_merge_0 10 rfl rfl)
theorem dX8_merge_13 : decode cX8_merge 13 = .ok (.checkcast 63, 3) := dk_192 0 63 (dk_at dksX8_merge_0 13 rfl rfl)
theorem dX8_merge_16 : decode cX8_merge 16 = .ok (.astore_n 1, 1) := dk_76 (dk_at dksX8_merge_0 16 rfl rfl)
theorem dX8_merge_17 : decode cX8_merge 17 = .ok (.aload_n 1, 1) := dk_43 (dk_at dksX8_merge_0 17 rfl rfl)
theorem dX8_merge_18 : decode cX8_merge 18 = .ok (.getfield 124, 3) := dk_180 0 124 (dk_at dksX8_merge_0 18 rfl rfl)
theorem dX8_merge_21 : decode cX8_merge 21 = .ok (.invokevirtual 49, 3) := dk_182 0 49 (dk_at dksX8_merge_0 21 rfl rfl)
theorem dX8_merge_24 : decode cX8_merge 24 = .ok (.astore_n 2, 1) := dk_77 (dk_at dksX8_merge_1 0 rfl rfl)
theorem dX8_merge_25 : decode cX8_merge 25 = .ok (.aload_n 2, 1) := dk_44 (dk_at dksX8_merge_1 1 rfl rfl)
theorem dX8_merge_26 : decode cX8_merge 26 = .ok (.invokeinterface 53 1, 5) := by decide +kernel
theorem dX8_merge_31 : decode cX8_merge 31 = .ok (.ifCond .eq 21, 3) := dk_153 0 21 (dk_at dksX8_merge_1 7 rfl rfl)
theorem dX8_merge_34 : decode cX8_merge 34 = .ok (.aload_n 2, 1) := dk_44 (dk_at dksX8_merge_1 10 rfl rfl)
theorem dX8_merge_35 : decode cX8_merge 35 = .ok (.invokeinterface 59 1, 5) := by decide +kernel
theorem dX8_merge_40 : decode cX8_merge 40 = .ok (.checkcast 127, 3) := dk_192 0 127 (dk_at dksX8_merge_1 16 rfl rfl)
theorem dX8_merge_43 : decode cX8_merge 43 = .ok (.astore_n 3, 1) := dk_78 (dk_at dksX8_merge_1 19 rfl rfl)
theorem dX8_merge_44 : decode cX8_merge 44 = .ok (.aload_n 0, 1) := dk_42 (dk_at dksX8_merge_1 20 rfl rfl)
theorem dX8_merge_45 : decode cX8_merge 45 = .ok (.aload_n 3, 1) := dk_45 (dk_at dksX8_merge_1 21 rfl rfl)
theorem dX8_merge_46 : decode cX8_merge 46 = .ok (.invokevirtual 154, 3) := dk_182 0 154 (dk_at dksX8_merge_2 0 rfl rfl)
theorem dX8_merge_49 : decode cX8_merge 49 = .ok (.goto (-24), 3) := dk_167 255 232 (dk_at dksX8_merge_2 3 rfl rfl)
theorem dX8_merge_52 : decode cX8_merge 52 = .ok (.aload_n 0, 1) := dk_42 (dk_at dksX8_merge_2 6 rfl rfl)
theorem dX8_merge_53 : decode cX8_merge 53 = .ok (.getfield 24, 3) := dk_180 0 24 (dk_at dksX8_merge_2 7 rfl rfl)
theorem dX8_merge_56 : decode cX8_merge 56 = .ok (.aload_n 0, 1) := dk_42 (dk_at dksX8_merge_2 10 rfl rfl)
theorem dX8_merge_57 : decode cX8_merge 57 = .ok (.invokevirtual 100, 3) := dk_182 0 100 (dk_at dksX8_merge_2 11 rfl rfl)
theorem dX8_merge_60 : decode cX8_merge 60 = .ok (.invokestatic 144, 3) := dk_184 0 144 (dk_at dksX8_merge_2 14 rfl rfl)
theorem dX8_merge_63 : decode cX8_merge 63 = .ok (.invokevirtual 107, 3) := dk_182 0 107 (dk_at dksX8_merge_2 17 rfl rfl)
theorem dX8_merge_66 : decode cX8_merge 66 = .ok (.checkcast 63, 3) := dk_192 0 63 (dk_at dksX8_merge_2 20 rfl rfl)
theorem dX8_merge_69 : decode cX8_merge 69 = .ok (.astore_n 2, 1) := dk_77 (dk_at dksX8_merge_2 23 rfl rfl)
theorem dX8_merge_70 : decode cX8_merge 70 = .ok (.aload_n 2, 1) := dk_44 (dk_at dksX8_merge_3 0 rfl rfl)
theorem dX8_merge_71 : decode cX8_merge 71 = .ok (.iconst 0, 1) := dk_3 (dk_at dksX8_merge_3 1 rfl rfl)
theorem dX8_merge_72 : decode cX8_merge 72 = .ok (.putfield 118, 3) := dk_181 0 118 (dk_at dksX8_merge_3 2 rfl rfl)
theorem dX8_merge_75 : decode cX8_merge 75 = .ok (.aload_n 2, 1) := dk_44 (dk_at dksX8_merge_3 5 rfl rfl)
theorem dX8_merge_76 : decode cX8_merge 76 = .ok (.getfield 124, 3) := dk_180 0 124 (dk_at dksX8_merge_3 6 rfl rfl)
theorem dX8_merge_79 : decode cX8_merge 79 = .ok (.invokevirtual 49, 3) := dk_182 0 49 (dk_at dksX8_merge_3 9 rfl rfl)
theorem dX8_merge_82 : decode cX8_merge 82 = .ok (.astore_n 3, 1) := dk_78 (dk_at dksX8_merge_3 12 rfl rfl)
theorem dX8_merge_83 : decode cX8_merge 83 = .ok (.aload_n 3, 1) := dk_45 (dk_at dksX8_merge_3 13 rfl rfl)
theorem dX8_merge_84 : decode cX8_merge 84 = .ok (.invokeinterface 53 1, 5) := by decide +kernel
theorem dX8_merge_89 : decode cX8_merge 89 = .ok (.ifCond .eq 37, 3) := dk_153 0 37 (dk_at dksX8_merge_3 19 rfl rfl)
theorem dX8_merge_92 : decode cX8_merge 92 = .ok (.aload_n 3, 1) := dk_45 (dk_at dksX8_merge_3 22 rfl rfl)
theorem dX8_merge_93 : decode cX8_merge 93 = .ok (.invokeinterface 59 1, 5) := by decide +kernel
theorem dX8_merge_98 : decode cX8_merge 98 = .ok (.checkcast 127, 3) := dk_192 0 127 (dk_at dksX8_merge_4 5 rfl rfl)
theorem dX8_merge_101 : decode cX8_merge 101 = .ok (.astore 4, 2) := dk_58 4 (dk_at dksX8_merge_4 8 rfl rfl)
theorem dX8_merge_103 : decode cX8_merge 103 = .ok (.aload_n 2, 1) := dk_44 (dk_at dksX8_merge_4 10 rfl rfl)
theorem dX8_merge_104 : decode cX8_merge 104 = .ok (.dup, 1) := dk_89 (dk_at dksX8_merge_4 11 rfl rfl)
theorem dX8_merge_105 : decode cX8_merge 105 = .ok (.getfield 118, 3) := dk_180 0 118 (dk_at dksX8_merge_4 12 rfl rfl)
theorem dX8_merge_108 : decode cX8_merge 108 = .ok (.aload_n 0, 1) := dk_42 (dk_at dksX8_merge_4 15 rfl rfl)
theorem dX8_merge_109 : decode cX8_merge 109 = .ok (.aload 4, 2) := dk_25 4 (dk_at dksX8_merge_4 16 rfl rfl)
theorem dX8_merge_111 : decode cX8_merge 111 = .ok (.iconst 0, 1) := dk_3 (dk_at dksX8_merge_4 18 rfl rfl)
theorem dX8_merge_112 : decode cX8_merge 112 = .ok (.iaload, 1) := dk_46 (dk_at dksX8_merge_4 19 rfl rfl)
theorem dX8_merge_113 : decode cX8_merge 113 = .ok (.invokevirtual 93, 3) := dk_182 0 93 (dk_at dksX8_merge_4 20 rfl rfl)
theorem dX8_merge_116 : decode cX8_merge 116 = .ok (.invokestatic 111, 3) := dk_184 0 111 (dk_at dksX8_merge_5 0 rfl rfl)
theorem dX8_merge_119 : decode cX8_merge 119 = .ok (.ior, 1) := dk_128 (dk_at dksX8_merge_5 3 rfl rfl)
theorem dX8_merge_120 : decode cX8_merge 120 = .ok (.putfield 118, 3) := dk_181 0 118 (dk_at dksX8_merge_5 4 rfl rfl)
theorem dX8_merge_123 : decode cX8_merge 123 = .ok (.goto (-40), 3) := dk_167 255 216 (dk_at dksX8_merge_5 7 rfl rfl)
theorem dX8_merge_126 : decode cX8_merge 126 = .ok (.aload_n 0, 1) := dk_42 (dk_at dksX8_merge_5 10 rfl rfl)
theorem dX8_merge_127 : decode cX8_merge 127 = .ok (.dup, 1) := dk_89 (dk_at dksX8_merge_5 11 rfl rfl)
theorem dX8_merge_128 : decode cX8_merge 128 = .ok (.getfield 43, 3) := dk_180 0 43 (dk_at dksX8_merge_5 12 rfl rfl)
theorem dX8_merge_131 : decode cX8_merge 131 = .ok (.iconst 1, 1) := dk_4 (dk_at dksX8_merge_5 15 rfl rfl)
theorem dX8_merge_132 : decode cX8_merge 132 = .ok (.iadd, 1) := dk_96 (dk_at dksX8_merge_5 16 rfl rfl)
theorem dX8_merge_133 : decode cX8_merge 133 = .ok (.putfield 43, 3) := dk_181 0 43 (dk_at dksX8_merge_5 17 rfl rfl)
theorem dX8_merge_136 : decode cX8_merge 136 = .ok (.return_, 1) := dk_177 (dk_at dksX8_merge_5 20 rfl rfl)
abbrev cX8_rehash : ByteArray := prog_17_method_22_code
def yX8_rehash : MethodName := ⟨RX8, "rehash", "(II)I"⟩
def dkwX8_rehash_3 : List UInt8 := [87, 167, 255, 221, 42, 182, 0, 180, 172]
abbrev dktX8_rehash_3 : List UInt8 := dkwX8_rehash_3 ++ []
def dkwX8_rehash_2 : List UInt8 := [25, 4, 185, 0, 59, 1, 0, 192, 0, 127, 58, 5, 42, 25, 5, 3, 46, 25, 5, 4, 46, 182, 0, 177]
abbrev dktX8_rehash_2 : List UInt8 := dkwX8_rehash_2 ++ dktX8_rehash_3
def dkwX8_rehash_1 : List UInt8 := [182, 0, 31, 42, 182, 0, 31, 45, 182, 0, 49, 58, 4, 25, 4, 185, 0, 53, 1, 0, 153, 0, 31]
abbrev dktX8_rehash_1 : List UInt8 := dkwX8_rehash_1 ++ dktX8_rehash_2
def dkwX8_rehash_0 : List UInt8 := [42, 182, 0, 173, 78, 42, 27, 181, 0, 18, 42, 28, 181, 0, 37, 42, 180, 0, 24, 182, 0, 46, 42]
abbrev dktX8_rehash_0 : List UInt8 := dkwX8_rehash_0 ++ dktX8_rehash_1
theorem dksX8_rehash_0 : cX8_rehash.data.toList.drop 0 = dktX8_rehash_0 := by decide +kernel
theorem dksX8_rehash_1 : cX8_rehash.data.toList.drop 23 = dktX8_rehash_1 := dk_seg dksX8_rehash_0 23 rfl rfl
theorem dksX8_rehash_2 : cX8_rehash.data.toList.drop 46 = dktX8_rehash_2 := dk_seg dksX8_rehash_1 23 rfl rfl
theorem dksX8_rehash_3 : cX8_rehash.data.toList.drop 70 = dktX8_rehash_3 := dk_seg dksX8_rehash_2 24 rfl rfl
theorem dX8_rehash_0 : decode cX8_rehash 0 = .ok (.aload_n 0, 1) := dk_42 (dk_at dksX8_rehash_0 0 rfl rfl)
theorem dX8_rehash_1 : decode cX8_rehash 1 = .ok (.invokevirtual 173, 3) := dk_182 0 173 (dk_at dksX8_rehash_0 1 rfl rfl)
theorem dX8_rehash_4 : decode cX8_rehash 4 = .ok (.astore_n 3, 1) := dk_78 (dk_at dksX8_rehash_0 4 rfl rfl)
theorem dX8_rehash_5 : decode cX8_rehash 5 = .ok (.aload_n 0, 1) := dk_42 (dk_at dksX8_rehash_0 5 rfl rfl)
theorem dX8_rehash_6 : decode cX8_rehash 6 = .ok (.iload_n 1, 1) := dk_27 (dk_at dksX8_rehash_0 6 rfl rfl)
theorem dX8_rehash_7 : decode cX8_rehash 7 = .ok (.putfield 18, 3) := dk_181 0 18 (dk_at dksX8_rehash_0 7 rfl rfl)
theorem dX8_rehash_10 : decode cX8_rehash 10 = .ok (.aload_n 0, 1) := dk_42 (dk_at dksX8_rehash_0 10 rfl rfl)
theorem dX8_rehash_11 : decode cX8_rehash 11 = .ok (.iload_n 2, 1) := dk_28 (dk_at dksX8_rehash_0 11 rfl rfl)
theorem dX8_rehash_12 : decode cX8_rehash 12 = .ok (.putfield 37, 3) := dk_181 0 37 (dk_at dksX8_rehash_0 12 rfl rfl)
theorem dX8_rehash_15 : decode cX8_rehash 15 = .ok (.aload_n 0, 1) := dk_42 (dk_at dksX8_rehash_0 15 rfl rfl)
theorem dX8_rehash_16 : decode cX8_rehash 16 = .ok (.getfield 24, 3) := dk_180 0 24 (dk_at dksX8_rehash_0 16 rfl rfl)
theorem dX8_rehash_19 : decode cX8_rehash 19 = .ok (.invokevirtual 46, 3) := dk_182 0 46 (dk_at dksX8_rehash_0 19 rfl rfl)
theorem dX8_rehash_22 : decode cX8_rehash 22 = .ok (.aload_n 0, 1) := dk_42 (dk_at dksX8_rehash_0 22 rfl rfl)
theorem dX8_rehash_23 : decode cX8_rehash 23 = .ok (.invokevirtual 31, 3) := dk_182 0 31 (dk_at dksX8_rehash_1 0 rfl rfl)
theorem dX8_rehash_26 : decode cX8_rehash 26 = .ok (.aload_n 0, 1) := dk_42 (dk_at dksX8_rehash_1 3 rfl rfl)
theorem dX8_rehash_27 : decode cX8_rehash 27 = .ok (.invokevirtual 31, 3) := dk_182 0 31 (dk_at dksX8_rehash_1 4 rfl rfl)
theorem dX8_rehash_30 : decode cX8_rehash 30 = .ok (.aload_n 3, 1) := dk_45 (dk_at dksX8_rehash_1 7 rfl rfl)
theorem dX8_rehash_31 : decode cX8_rehash 31 = .ok (.invokevirtual 49, 3) := dk_182 0 49 (dk_at dksX8_rehash_1 8 rfl rfl)
theorem dX8_rehash_34 : decode cX8_rehash 34 = .ok (.astore 4, 2) := dk_58 4 (dk_at dksX8_rehash_1 11 rfl rfl)
theorem dX8_rehash_36 : decode cX8_rehash 36 = .ok (.aload 4, 2) := dk_25 4 (dk_at dksX8_rehash_1 13 rfl rfl)
theorem dX8_rehash_38 : decode cX8_rehash 38 = .ok (.invokeinterface 53 1, 5) := by decide +kernel
theorem dX8_rehash_43 : decode cX8_rehash 43 = .ok (.ifCond .eq 31, 3) := dk_153 0 31 (dk_at dksX8_rehash_1 20 rfl rfl)
theorem dX8_rehash_46 : decode cX8_rehash 46 = .ok (.aload 4, 2) := dk_25 4 (dk_at dksX8_rehash_2 0 rfl rfl)
theorem dX8_rehash_48 : decode cX8_rehash 48 = .ok (.invokeinterface 59 1, 5) := by decide +kernel
theorem dX8_rehash_53 : decode cX8_rehash 53 = .ok (.checkcast 127, 3) := dk_192 0 127 (dk_at dksX8_rehash_2 7 rfl rfl)
theorem dX8_rehash_56 : decode cX8_rehash 56 = .ok (.astore 5, 2) := dk_58 5 (dk_at dksX8_rehash_2 10 rfl rfl)
theorem dX8_rehash_58 : decode cX8_rehash 58 = .ok (.aload_n 0, 1) := dk_42 (dk_at dksX8_rehash_2 12 rfl rfl)
theorem dX8_rehash_59 : decode cX8_rehash 59 = .ok (.aload 5, 2) := dk_25 5 (dk_at dksX8_rehash_2 13 rfl rfl)
theorem dX8_rehash_61 : decode cX8_rehash 61 = .ok (.iconst 0, 1) := dk_3 (dk_at dksX8_rehash_2 15 rfl rfl)
theorem dX8_rehash_62 : decode cX8_rehash 62 = .ok (.iaload, 1) := dk_46 (dk_at dksX8_rehash_2 16 rfl rfl)
theorem dX8_rehash_63 : decode cX8_rehash 63 = .ok (.aload 5, 2) := dk_25 5 (dk_at dksX8_rehash_2 17 rfl rfl)
theorem dX8_rehash_65 : decode cX8_rehash 65 = .ok (.iconst 1, 1) := dk_4 (dk_at dksX8_rehash_2 19 rfl rfl)
theorem dX8_rehash_66 : decode cX8_rehash 66 = .ok (.iaload, 1) := dk_46 (dk_at dksX8_rehash_2 20 rfl rfl)
theorem dX8_rehash_67 : decode cX8_rehash 67 = .ok (.invokevirtual 177, 3) := dk_182 0 177 (dk_at dksX8_rehash_2 21 rfl rfl)
theorem dX8_rehash_70 : decode cX8_rehash 70 = .ok (.pop, 1) := dk_87 (dk_at dksX8_rehash_3 0 rfl rfl)
theorem dX8_rehash_71 : decode cX8_rehash 71 = .ok (.goto (-35), 3) := dk_167 255 221 (dk_at dksX8_rehash_3 1 rfl rfl)
theorem dX8_rehash_74 : decode cX8_rehash 74 = .ok (.aload_n 0, 1) := dk_42 (dk_at dksX8_rehash_3 4 rfl rfl)
theorem dX8_rehash_75 : decode cX8_rehash 75 = .ok (.invokevirtual 180, 3) := dk_182 0 180 (dk_at dksX8_rehash_3 5 rfl rfl)
theorem dX8_rehash_78 : decode cX8_rehash 78 = .ok (.ireturn, 1) := dk_172 (dk_at dksX8_rehash_3 8 rfl rfl)
abbrev cX8_all : ByteArray := prog_17_method_11_code
def yX8_all : MethodName := ⟨RX8, "all", "()Ljava/util/ArrayList;"⟩
def dkwX8_all_2 : List UInt8 := [167, 255, 228, 43, 176]
abbrev dktX8_all_2 : List UInt8 := dkwX8_all_2 ++ []
def dkwX8_all_1 : List UInt8 := [153, 0, 25, 44, 185, 0, 59, 1, 0, 192, 0, 63, 78, 43, 45, 180, 0, 124, 182, 0, 129, 87]
abbrev dktX8_all_1 : List UInt8 := dkwX8_all_1 ++ dktX8_all_2
def dkwX8_all_0 : List UInt8 := [187, 0, 21, 89, 183, 0, 23, 76, 42, 180, 0, 24, 182, 0, 49, 77, 44, 185, 0, 53, 1, 0]
abbrev dktX8_all_0 : List UInt8 := dkwX8_all_0 ++ dktX8_all_1
theorem dksX8_all_0 : cX8_all.data.toList.drop 0 = dktX8_all_0 := by decide +kernel
theorem dksX8_all_1 : cX8_all.data.toList.drop 22 = dktX8_all_1 := dk_seg dksX8_all_0 22 rfl rfl
theorem dksX8_all_2 : cX8_all.data.toList.drop 44 = dktX8_all_2 := dk_seg dksX8_all_1 22 rfl rfl
theorem dX8_all_0 : decode cX8_all 0 = .ok (.new 21, 3) := dk_187 0 21 (dk_at dksX8_all_0 0 rfl rfl)
theorem dX8_all_3 : decode cX8_all 3 = .ok (.dup, 1) := dk_89 (dk_at dksX8_all_0 3 rfl rfl)
theorem dX8_all_4 : decode cX8_all 4 = .ok (.invokespecial 23, 3) := dk_183 0 23 (dk_at dksX8_all_0 4 rfl rfl)
theorem dX8_all_7 : decode cX8_all 7 = .ok (.astore_n 1, 1) := dk_76 (dk_at dksX8_all_0 7 rfl rfl)
theorem dX8_all_8 : decode cX8_all 8 = .ok (.aload_n 0, 1) := dk_42 (dk_at dksX8_all_0 8 rfl rfl)
theorem dX8_all_9 : decode cX8_all 9 = .ok (.getfield 24, 3) := dk_180 0 24 (dk_at dksX8_all_0 9 rfl rfl)
theorem dX8_all_12 : decode cX8_all 12 = .ok (.invokevirtual 49, 3) := dk_182 0 49 (dk_at dksX8_all_0 12 rfl rfl)
theorem dX8_all_15 : decode cX8_all 15 = .ok (.astore_n 2, 1) := dk_77 (dk_at dksX8_all_0 15 rfl rfl)
theorem dX8_all_16 : decode cX8_all 16 = .ok (.aload_n 2, 1) := dk_44 (dk_at dksX8_all_0 16 rfl rfl)
theorem dX8_all_17 : decode cX8_all 17 = .ok (.invokeinterface 53 1, 5) := by decide +kernel
theorem dX8_all_22 : decode cX8_all 22 = .ok (.ifCond .eq 25, 3) := dk_153 0 25 (dk_at dksX8_all_1 0 rfl rfl)
theorem dX8_all_25 : decode cX8_all 25 = .ok (.aload_n 2, 1) := dk_44 (dk_at dksX8_all_1 3 rfl rfl)
theorem dX8_all_26 : decode cX8_all 26 = .ok (.invokeinterface 59 1, 5) := by decide +kernel
theorem dX8_all_31 : decode cX8_all 31 = .ok (.checkcast 63, 3) := dk_192 0 63 (dk_at dksX8_all_1 9 rfl rfl)
theorem dX8_all_34 : decode cX8_all 34 = .ok (.astore_n 3, 1) := dk_78 (dk_at dksX8_all_1 12 rfl rfl)
theorem dX8_all_35 : decode cX8_all 35 = .ok (.aload_n 1, 1) := dk_43 (dk_at dksX8_all_1 13 rfl rfl)
theorem dX8_all_36 : decode cX8_all 36 = .ok (.aload_n 3, 1) := dk_45 (dk_at dksX8_all_1 14 rfl rfl)
theorem dX8_all_37 : decode cX8_all 37 = .ok (.getfield 124, 3) := dk_180 0 124 (dk_at dksX8_all_1 15 rfl rfl)
theorem dX8_all_40 : decode cX8_all 40 = .ok (.invokevirtual 129, 3) := dk_182 0 129 (dk_at dksX8_all_1 18 rfl rfl)
theorem dX8_all_43 : decode cX8_all 43 = .ok (.pop, 1) := dk_87 (dk_at dksX8_all_1 21 rfl rfl)
theorem dX8_all_44 : decode cX8_all 44 = .ok (.goto (-28), 3) := dk_167 255 228 (dk_at dksX8_all_2 0 rfl rfl)
theorem dX8_all_47 : decode cX8_all 47 = .ok (.aload_n 1, 1) := dk_43 (dk_at dksX8_all_2 3 rfl rfl)
theorem dX8_all_48 : decode cX8_all 48 = .ok (.areturn, 1) := dk_176 (dk_at dksX8_all_2 4 rfl rfl)
abbrev cX8_pages : ByteArray := prog_17_method_14_code
def yX8_pages : MethodName := ⟨RX8, "pages", "()I"⟩
def dkwX8_pages_1 : List UInt8 := [185, 0, 59, 1, 0, 192, 0, 63, 78, 27, 45, 180, 0, 73, 182, 0, 90, 96, 60, 167, 255, 227, 27, 172]
abbrev dktX8_pages_1 : List UInt8 := dkwX8_pages_1 ++ []
def dkwX8_pages_0 : List UInt8 := [3, 60, 42, 180, 0, 24, 182, 0, 49, 77, 44, 185, 0, 53, 1, 0, 153, 0, 26, 44]
abbrev dktX8_pages_0 : List UInt8 := dkwX8_pages_0 ++ dktX8_pages_1
theorem dksX8_pages_0 : cX8_pages.data.toList.drop 0 = dktX8_pages_0 := by decide +kernel
theorem dksX8_pages_1 : cX8_pages.data.toList.drop 20 = dktX8_pages_1 := dk_seg dksX8_pages_0 20 rfl rfl
theorem dX8_pages_0 : decode cX8_pages 0 = .ok (.iconst 0, 1) := dk_3 (dk_at dksX8_pages_0 0 rfl rfl)
theorem dX8_pages_1 : decode cX8_pages 1 = .ok (.istore_n 1, 1) := dk_60 (dk_at dksX8_pages_0 1 rfl rfl)
theorem dX8_pages_2 : decode cX8_pages 2 = .ok (.aload_n 0, 1) := dk_42 (dk_at dksX8_pages_0 2 rfl rfl)
theorem dX8_pages_3 : decode cX8_pages 3 = .ok (.getfield 24, 3) := dk_180 0 24 (dk_at dksX8_pages_0 3 rfl rfl)
theorem dX8_pages_6 : decode cX8_pages 6 = .ok (.invokevirtual 49, 3) := dk_182 0 49 (dk_at dksX8_pages_0 6 rfl rfl)
theorem dX8_pages_9 : decode cX8_pages 9 = .ok (.astore_n 2, 1) := dk_77 (dk_at dksX8_pages_0 9 rfl rfl)
theorem dX8_pages_10 : decode cX8_pages 10 = .ok (.aload_n 2, 1) := dk_44 (dk_at dksX8_pages_0 10 rfl rfl)
theorem dX8_pages_11 : decode cX8_pages 11 = .ok (.invokeinterface 53 1, 5) := by decide +kernel
theorem dX8_pages_16 : decode cX8_pages 16 = .ok (.ifCond .eq 26, 3) := dk_153 0 26 (dk_at dksX8_pages_0 16 rfl rfl)
theorem dX8_pages_19 : decode cX8_pages 19 = .ok (.aload_n 2, 1) := dk_44 (dk_at dksX8_pages_0 19 rfl rfl)
theorem dX8_pages_20 : decode cX8_pages 20 = .ok (.invokeinterface 59 1, 5) := by decide +kernel
theorem dX8_pages_25 : decode cX8_pages 25 = .ok (.checkcast 63, 3) := dk_192 0 63 (dk_at dksX8_pages_1 5 rfl rfl)
theorem dX8_pages_28 : decode cX8_pages 28 = .ok (.astore_n 3, 1) := dk_78 (dk_at dksX8_pages_1 8 rfl rfl)
theorem dX8_pages_29 : decode cX8_pages 29 = .ok (.iload_n 1, 1) := dk_27 (dk_at dksX8_pages_1 9 rfl rfl)
theorem dX8_pages_30 : decode cX8_pages 30 = .ok (.aload_n 3, 1) := dk_45 (dk_at dksX8_pages_1 10 rfl rfl)
theorem dX8_pages_31 : decode cX8_pages 31 = .ok (.getfield 73, 3) := dk_180 0 73 (dk_at dksX8_pages_1 11 rfl rfl)
theorem dX8_pages_34 : decode cX8_pages 34 = .ok (.invokevirtual 90, 3) := dk_182 0 90 (dk_at dksX8_pages_1 14 rfl rfl)
theorem dX8_pages_37 : decode cX8_pages 37 = .ok (.iadd, 1) := dk_96 (dk_at dksX8_pages_1 17 rfl rfl)
theorem dX8_pages_38 : decode cX8_pages 38 = .ok (.istore_n 1, 1) := dk_60 (dk_at dksX8_pages_1 18 rfl rfl)
theorem dX8_pages_39 : decode cX8_pages 39 = .ok (.goto (-29), 3) := dk_167 255 227 (dk_at dksX8_pages_1 19 rfl rfl)
theorem dX8_pages_42 : decode cX8_pages 42 = .ok (.iload_n 1, 1) := dk_27 (dk_at dksX8_pages_1 22 rfl rfl)
theorem dX8_pages_43 : decode cX8_pages 43 = .ok (.ireturn, 1) := dk_172 (dk_at dksX8_pages_1 23 rfl rfl)
abbrev cX8_has : ByteArray := prog_17_method_9_code
def yX8_has : MethodName := ⟨RX8, "has", "(I)Z"⟩
def dkwX8_has_1 : List UInt8 := [167, 0, 4, 3, 172]
abbrev dktX8_has_1 : List UInt8 := dkwX8_has_1 ++ []
def dkwX8_has_0 : List UInt8 := [42, 27, 182, 0, 93, 184, 0, 111, 61, 42, 27, 182, 0, 114, 180, 0, 118, 28, 126, 28, 160, 0, 7, 4]
abbrev dktX8_has_0 : List UInt8 := dkwX8_has_0 ++ dktX8_has_1
theorem dksX8_has_0 : cX8_has.data.toList.drop 0 = dktX8_has_0 := by decide +kernel
theorem dksX8_has_1 : cX8_has.data.toList.drop 24 = dktX8_has_1 := dk_seg dksX8_has_0 24 rfl rfl
theorem dX8_has_0 : decode cX8_has 0 = .ok (.aload_n 0, 1) := dk_42 (dk_at dksX8_has_0 0 rfl rfl)
theorem dX8_has_1 : decode cX8_has 1 = .ok (.iload_n 1, 1) := dk_27 (dk_at dksX8_has_0 1 rfl rfl)
theorem dX8_has_2 : decode cX8_has 2 = .ok (.invokevirtual 93, 3) := dk_182 0 93 (dk_at dksX8_has_0 2 rfl rfl)
theorem dX8_has_5 : decode cX8_has 5 = .ok (.invokestatic 111, 3) := dk_184 0 111 (dk_at dksX8_has_0 5 rfl rfl)
theorem dX8_has_8 : decode cX8_has 8 = .ok (.istore_n 2, 1) := dk_61 (dk_at dksX8_has_0 8 rfl rfl)
theorem dX8_has_9 : decode cX8_has 9 = .ok (.aload_n 0, 1) := dk_42 (dk_at dksX8_has_0 9 rfl rfl)
theorem dX8_has_10 : decode cX8_has 10 = .ok (.iload_n 1, 1) := dk_27 (dk_at dksX8_has_0 10 rfl rfl)
theorem dX8_has_11 : decode cX8_has 11 = .ok (.invokevirtual 114, 3) := dk_182 0 114 (dk_at dksX8_has_0 11 rfl rfl)
theorem dX8_has_14 : decode cX8_has 14 = .ok (.getfield 118, 3) := dk_180 0 118 (dk_at dksX8_has_0 14 rfl rfl)
theorem dX8_has_17 : decode cX8_has 17 = .ok (.iload_n 2, 1) := dk_28 (dk_at dksX8_has_0 17 rfl rfl)
theorem dX8_has_18 : decode cX8_has 18 = .ok (.iand, 1) := dk_126 (dk_at dksX8_has_0 18 rfl rfl)
theorem dX8_has_19 : decode cX8_has 19 = .ok (.iload_n 2, 1) := dk_28 (dk_at dksX8_has_0 19 rfl rfl)
theorem dX8_has_20 : decode cX8_has 20 = .ok (.if_icmp .ne 7, 3) := dk_160 0 7 (dk_at dksX8_has_0 20 rfl rfl)
theorem dX8_has_23 : decode cX8_has 23 = .ok (.iconst 1, 1) := dk_4 (dk_at dksX8_has_0 23 rfl rfl)
theorem dX8_has_24 : decode cX8_has 24 = .ok (.goto 4, 3) := dk_167 0 4 (dk_at dksX8_has_1 0 rfl rfl)
theorem dX8_has_27 : decode cX8_has 27 = .ok (.iconst 0, 1) := dk_3 (dk_at dksX8_has_1 3 rfl rfl)
theorem dX8_has_28 : decode cX8_has 28 = .ok (.ireturn, 1) := dk_172 (dk_at dksX8_has_1 4 rfl rfl)
abbrev cX8_place : ByteArray := prog_17_method_7_code
def yX8_place : MethodName := ⟨RX8, "place", "(I)I"⟩
def dkwX8_place_0 : List UInt8 := [42, 27, 182, 0, 93, 184, 0, 97, 17, 39, 16, 104, 27, 96, 172]
abbrev dktX8_place_0 : List UInt8 := dkwX8_place_0 ++ []
theorem dksX8_place_0 : cX8_place.data.toList.drop 0 = dktX8_place_0 := by decide +kernel
theorem dX8_place_0 : decode cX8_place 0 = .ok (.aload_n 0, 1) := dk_42 (dk_at dksX8_place_0 0 rfl rfl)
theorem dX8_place_1 : decode cX8_place 1 = .ok (.iload_n 1, 1) := dk_27 (dk_at dksX8_place_0 1 rfl rfl)
theorem dX8_place_2 : decode cX8_place 2 = .ok (.invokevirtual 93, 3) := dk_182 0 93 (dk_at dksX8_place_0 2 rfl rfl)
theorem dX8_place_5 : decode cX8_place 5 = .ok (.invokestatic 97, 3) := dk_184 0 97 (dk_at dksX8_place_0 5 rfl rfl)
theorem dX8_place_8 : decode cX8_place 8 = .ok (.sipush 10000, 3) := dk_17 39 16 (dk_at dksX8_place_0 8 rfl rfl)
theorem dX8_place_11 : decode cX8_place 11 = .ok (.imul, 1) := dk_104 (dk_at dksX8_place_0 11 rfl rfl)
theorem dX8_place_12 : decode cX8_place 12 = .ok (.iload_n 1, 1) := dk_27 (dk_at dksX8_place_0 12 rfl rfl)
theorem dX8_place_13 : decode cX8_place 13 = .ok (.iadd, 1) := dk_96 (dk_at dksX8_place_0 13 rfl rfl)
theorem dX8_place_14 : decode cX8_place 14 = .ok (.ireturn, 1) := dk_172 (dk_at dksX8_place_0 14 rfl rfl)
abbrev cX8_longest : ByteArray := prog_17_method_15_code
def yX8_longest : MethodName := ⟨RX8, "longest", "()I"⟩
def dkwX8_longest_2 : List UInt8 := [27, 172]
abbrev dktX8_longest_2 : List UInt8 := dkwX8_longest_2 ++ []
def dkwX8_longest_1 : List UInt8 := [185, 0, 59, 1, 0, 192, 0, 63, 78, 27, 45, 180, 0, 73, 182, 0, 90, 184, 0, 136, 60, 167, 255, 225]
abbrev dktX8_longest_1 : List UInt8 := dkwX8_longest_1 ++ dktX8_longest_2
def dkwX8_longest_0 : List UInt8 := [3, 60, 42, 180, 0, 24, 182, 0, 49, 77, 44, 185, 0, 53, 1, 0, 153, 0, 28, 44]
abbrev dktX8_longest_0 : List UInt8 := dkwX8_longest_0 ++ dktX8_longest_1
theorem dksX8_longest_0 : cX8_longest.data.toList.drop 0 = dktX8_longest_0 := by decide +kernel
theorem dksX8_longest_1 : cX8_longest.data.toList.drop 20 = dktX8_longest_1 := dk_seg dksX8_longest_0 20 rfl rfl
theorem dksX8_longest_2 : cX8_longest.data.toList.drop 44 = dktX8_longest_2 := dk_seg dksX8_longest_1 24 rfl rfl
theorem dX8_longest_0 : decode cX8_longest 0 = .ok (.iconst 0, 1) := dk_3 (dk_at dksX8_longest_0 0 rfl rfl)
theorem dX8_longest_1 : decode cX8_longest 1 = .ok (.istore_n 1, 1) := dk_60 (dk_at dksX8_longest_0 1 rfl rfl)
theorem dX8_longest_2 : decode cX8_longest 2 = .ok (.aload_n 0, 1) := dk_42 (dk_at dksX8_longest_0 2 rfl rfl)
theorem dX8_longest_3 : decode cX8_longest 3 = .ok (.getfield 24, 3) := dk_180 0 24 (dk_at dksX8_longest_0 3 rfl rfl)
theorem dX8_longest_6 : decode cX8_longest 6 = .ok (.invokevirtual 49, 3) := dk_182 0 49 (dk_at dksX8_longest_0 6 rfl rfl)
theorem dX8_longest_9 : decode cX8_longest 9 = .ok (.astore_n 2, 1) := dk_77 (dk_at dksX8_longest_0 9 rfl rfl)
theorem dX8_longest_10 : decode cX8_longest 10 = .ok (.aload_n 2, 1) := dk_44 (dk_at dksX8_longest_0 10 rfl rfl)
theorem dX8_longest_11 : decode cX8_longest 11 = .ok (.invokeinterface 53 1, 5) := by decide +kernel
theorem dX8_longest_16 : decode cX8_longest 16 = .ok (.ifCond .eq 28, 3) := dk_153 0 28 (dk_at dksX8_longest_0 16 rfl rfl)
theorem dX8_longest_19 : decode cX8_longest 19 = .ok (.aload_n 2, 1) := dk_44 (dk_at dksX8_longest_0 19 rfl rfl)
theorem dX8_longest_20 : decode cX8_longest 20 = .ok (.invokeinterface 59 1, 5) := by decide +kernel
theorem dX8_longest_25 : decode cX8_longest 25 = .ok (.checkcast 63, 3) := dk_192 0 63 (dk_at dksX8_longest_1 5 rfl rfl)
theorem dX8_longest_28 : decode cX8_longest 28 = .ok (.astore_n 3, 1) := dk_78 (dk_at dksX8_longest_1 8 rfl rfl)
theorem dX8_longest_29 : decode cX8_longest 29 = .ok (.iload_n 1, 1) := dk_27 (dk_at dksX8_longest_1 9 rfl rfl)
theorem dX8_longest_30 : decode cX8_longest 30 = .ok (.aload_n 3, 1) := dk_45 (dk_at dksX8_longest_1 10 rfl rfl)
theorem dX8_longest_31 : decode cX8_longest 31 = .ok (.getfield 73, 3) := dk_180 0 73 (dk_at dksX8_longest_1 11 rfl rfl)
theorem dX8_longest_34 : decode cX8_longest 34 = .ok (.invokevirtual 90, 3) := dk_182 0 90 (dk_at dksX8_longest_1 14 rfl rfl)
theorem dX8_longest_37 : decode cX8_longest 37 = .ok (.invokestatic 136, 3) := dk_184 0 136 (dk_at dksX8_longest_1 17 rfl rfl)
theorem dX8_longest_40 : decode cX8_longest 40 = .ok (.istore_n 1, 1) := dk_60 (dk_at dksX8_longest_1 20 rfl rfl)
theorem dX8_longest_41 : decode cX8_longest 41 = .ok (.goto (-31), 3) := dk_167 255 225 (dk_at dksX8_longest_1 21 rfl rfl)
theorem dX8_longest_44 : decode cX8_longest 44 = .ok (.iload_n 1, 1) := dk_27 (dk_at dksX8_longest_2 0 rfl rfl)
theorem dX8_longest_45 : decode cX8_longest 45 = .ok (.ireturn, 1) := dk_172 (dk_at dksX8_longest_2 1 rfl rfl)
abbrev cX8_visits : ByteArray := prog_17_method_24_code
def yX8_visits : MethodName := ⟨RX8, "visits", "(ZI)I"⟩
def dkwX8_visits_4 : List UInt8 := [21, 4, 172]
abbrev dktX8_visits_4 : List UInt8 := dkwX8_visits_4 ++ []
def dkwX8_visits_3 : List UInt8 := [21, 6, 126, 154, 0, 7, 4, 167, 0, 4, 3, 184, 0, 191, 96, 54, 4, 132, 5, 1, 167, 255, 188]
abbrev dktX8_visits_3 : List UInt8 := dkwX8_visits_3 ++ dktX8_visits_4
def dkwX8_visits_2 : List UInt8 := [180, 0, 18, 100, 5, 21, 5, 42, 182, 0, 100, 184, 0, 188, 120, 112, 54, 6, 21, 4, 21, 5, 29, 130]
abbrev dktX8_visits_2 : List UInt8 := dkwX8_visits_2 ++ dktX8_visits_3
def dkwX8_visits_1 : List UInt8 := [21, 5, 42, 182, 0, 100, 162, 0, 65, 27, 153, 0, 10, 42, 180, 0, 18, 167, 0, 11, 17, 3, 255, 42]
abbrev dktX8_visits_1 : List UInt8 := dkwX8_visits_1 ++ dktX8_visits_2
def dkwX8_visits_0 : List UInt8 := [42, 27, 153, 0, 10, 16, 100, 28, 104, 167, 0, 4, 28, 182, 0, 93, 62, 3, 54, 4, 3, 54, 5]
abbrev dktX8_visits_0 : List UInt8 := dkwX8_visits_0 ++ dktX8_visits_1
theorem dksX8_visits_0 : cX8_visits.data.toList.drop 0 = dktX8_visits_0 := by decide +kernel
theorem dksX8_visits_1 : cX8_visits.data.toList.drop 23 = dktX8_visits_1 := dk_seg dksX8_visits_0 23 rfl rfl
theorem dksX8_visits_2 : cX8_visits.data.toList.drop 47 = dktX8_visits_2 := dk_seg dksX8_visits_1 24 rfl rfl
theorem dksX8_visits_3 : cX8_visits.data.toList.drop 71 = dktX8_visits_3 := dk_seg dksX8_visits_2 24 rfl rfl
theorem dksX8_visits_4 : cX8_visits.data.toList.drop 94 = dktX8_visits_4 := dk_seg dksX8_visits_3 23 rfl rfl
theorem dX8_visits_0 : decode cX8_visits 0 = .ok (.aload_n 0, 1) := dk_42 (dk_at dksX8_visits_0 0 rfl rfl)
theorem dX8_visits_1 : decode cX8_visits 1 = .ok (.iload_n 1, 1) := dk_27 (dk_at dksX8_visits_0 1 rfl rfl)
theorem dX8_visits_2 : decode cX8_visits 2 = .ok (.ifCond .eq 10, 3) := dk_153 0 10 (dk_at dksX8_visits_0 2 rfl rfl)
theorem dX8_visits_5 : decode cX8_visits 5 = .ok (.bipush 100, 2) := dk_16 100 (dk_at dksX8_visits_0 5 rfl rfl)
theorem dX8_visits_7 : decode cX8_visits 7 = .ok (.iload_n 2, 1) := dk_28 (dk_at dksX8_visits_0 7 rfl rfl)
theorem dX8_visits_8 : decode cX8_visits 8 = .ok (.imul, 1) := dk_104 (dk_at dksX8_visits_0 8 rfl rfl)
theorem dX8_visits_9 : decode cX8_visits 9 = .ok (.goto 4, 3) := dk_167 0 4 (dk_at dksX8_visits_0 9 rfl rfl)
theorem dX8_visits_12 : decode cX8_visits 12 = .ok (.iload_n 2, 1) := dk_28 (dk_at dksX8_visits_0 12 rfl rfl)
theorem dX8_visits_13 : decode cX8_visits 13 = .ok (.invokevirtual 93, 3) := dk_182 0 93 (dk_at dksX8_visits_0 13 rfl rfl)
theorem dX8_visits_16 : decode cX8_visits 16 = .ok (.istore_n 3, 1) := dk_62 (dk_at dksX8_visits_0 16 rfl rfl)
theorem dX8_visits_17 : decode cX8_visits 17 = .ok (.iconst 0, 1) := dk_3 (dk_at dksX8_visits_0 17 rfl rfl)
theorem dX8_visits_18 : decode cX8_visits 18 = .ok (.istore 4, 2) := dk_54 4 (dk_at dksX8_visits_0 18 rfl rfl)
theorem dX8_visits_20 : decode cX8_visits 20 = .ok (.iconst 0, 1) := dk_3 (dk_at dksX8_visits_0 20 rfl rfl)
theorem dX8_visits_21 : decode cX8_visits 21 = .ok (.istore 5, 2) := dk_54 5 (dk_at dksX8_visits_0 21 rfl rfl)
theorem dX8_visits_23 : decode cX8_visits 23 = .ok (.iload 5, 2) := dk_21 5 (dk_at dksX8_visits_1 0 rfl rfl)
theorem dX8_visits_25 : decode cX8_visits 25 = .ok (.aload_n 0, 1) := dk_42 (dk_at dksX8_visits_1 2 rfl rfl)
theorem dX8_visits_26 : decode cX8_visits 26 = .ok (.invokevirtual 100, 3) := dk_182 0 100 (dk_at dksX8_visits_1 3 rfl rfl)
theorem dX8_visits_29 : decode cX8_visits 29 = .ok (.if_icmp .ge 65, 3) := dk_162 0 65 (dk_at dksX8_visits_1 6 rfl rfl)
theorem dX8_visits_32 : decode cX8_visits 32 = .ok (.iload_n 1, 1) := dk_27 (dk_at dksX8_visits_1 9 rfl rfl)
theorem dX8_visits_33 : decode cX8_visits 33 = .ok (.ifCond .eq 10, 3) := dk_153 0 10 (dk_at dksX8_visits_1 10 rfl rfl)
theorem dX8_visits_36 : decode cX8_visits 36 = .ok (.aload_n 0, 1) := dk_42 (dk_at dksX8_visits_1 13 rfl rfl)
theorem dX8_visits_37 : decode cX8_visits 37 = .ok (.getfield 18, 3) := dk_180 0 18 (dk_at dksX8_visits_1 14 rfl rfl)
theorem dX8_visits_40 : decode cX8_visits 40 = .ok (.goto 11, 3) := dk_167 0 11 (dk_at dksX8_visits_1 17 rfl rfl)
theorem dX8_visits_43 : decode cX8_visits 43 = .ok (.sipush 1023, 3) := dk_17 3 255 (dk_at dksX8_visits_1 20 rfl rfl)
theorem dX8_visits_46 : decode cX8_visits 46 = .ok (.aload_n 0, 1) := dk_42 (dk_at dksX8_visits_1 23 rfl rfl)
theorem dX8_visits_47 : decode cX8_visits 47 = .ok (.getfield 18, 3) := dk_180 0 18 (dk_at dksX8_visits_2 0 rfl rfl)
theorem dX8_visits_50 : decode cX8_visits 50 = .ok (.isub, 1) := dk_100 (dk_at dksX8_visits_2 3 rfl rfl)
theorem dX8_visits_51 : decode cX8_visits 51 = .ok (.iconst 2, 1) := dk_5 (dk_at dksX8_visits_2 4 rfl rfl)
theorem dX8_visits_52 : decode cX8_visits 52 = .ok (.iload 5, 2) := dk_21 5 (dk_at dksX8_visits_2 5 rfl rfl)
theorem dX8_visits_54 : decode cX8_visits 54 = .ok (.aload_n 0, 1) := dk_42 (dk_at dksX8_visits_2 7 rfl rfl)
theorem dX8_visits_55 : decode cX8_visits 55 = .ok (.invokevirtual 100, 3) := dk_182 0 100 (dk_at dksX8_visits_2 8 rfl rfl)
theorem dX8_visits_58 : decode cX8_visits 58 = .ok (.invokestatic 188, 3) := dk_184 0 188 (dk_at dksX8_visits_2 11 rfl rfl)
theorem dX8_visits_61 : decode cX8_visits 61 = .ok (.ishl, 1) := dk_120 (dk_at dksX8_visits_2 14 rfl rfl)
theorem dX8_visits_62 : decode cX8_visits 62 = .ok (.irem, 1) := dk_112 (dk_at dksX8_visits_2 15 rfl rfl)
theorem dX8_visits_63 : decode cX8_visits 63 = .ok (.istore 6, 2) := dk_54 6 (dk_at dksX8_visits_2 16 rfl rfl)
theorem dX8_visits_65 : decode cX8_visits 65 = .ok (.iload 4, 2) := dk_21 4 (dk_at dksX8_visits_2 18 rfl rfl)
theorem dX8_visits_67 : decode cX8_visits 67 = .ok (.iload 5, 2) := dk_21 5 (dk_at dksX8_visits_2 20 rfl rfl)
theorem dX8_visits_69 : decode cX8_visits 69 = .ok (.iload_n 3, 1) := dk_29 (dk_at dksX8_visits_2 22 rfl rfl)
theorem dX8_visits_70 : decode cX8_visits 70 = .ok (.ixor, 1) := dk_130 (dk_at dksX8_visits_2 23 rfl rfl)
theorem dX8_visits_71 : decode cX8_visits 71 = .ok (.iload 6, 2) := dk_21 6 (dk_at dksX8_visits_3 0 rfl rfl)
theorem dX8_visits_73 : decode cX8_visits 73 = .ok (.iand, 1) := dk_126 (dk_at dksX8_visits_3 2 rfl rfl)
theorem dX8_visits_74 : decode cX8_visits 74 = .ok (.ifCond .ne 7, 3) := dk_154 0 7 (dk_at dksX8_visits_3 3 rfl rfl)
theorem dX8_visits_77 : decode cX8_visits 77 = .ok (.iconst 1, 1) := dk_4 (dk_at dksX8_visits_3 6 rfl rfl)
theorem dX8_visits_78 : decode cX8_visits 78 = .ok (.goto 4, 3) := dk_167 0 4 (dk_at dksX8_visits_3 7 rfl rfl)
theorem dX8_visits_81 : decode cX8_visits 81 = .ok (.iconst 0, 1) := dk_3 (dk_at dksX8_visits_3 10 rfl rfl)
theorem dX8_visits_82 : decode cX8_visits 82 = .ok (.invokestatic 191, 3) := dk_184 0 191 (dk_at dksX8_visits_3 11 rfl rfl)
theorem dX8_visits_85 : decode cX8_visits 85 = .ok (.iadd, 1) := dk_96 (dk_at dksX8_visits_3 14 rfl rfl)
theorem dX8_visits_86 : decode cX8_visits 86 = .ok (.istore 4, 2) := dk_54 4 (dk_at dksX8_visits_3 15 rfl rfl)
theorem dX8_visits_88 : decode cX8_visits 88 = .ok (.iinc 5 1, 3) := dk_132 5 1 (dk_at dksX8_visits_3 17 rfl rfl)
theorem dX8_visits_91 : decode cX8_visits 91 = .ok (.goto (-68), 3) := dk_167 255 188 (dk_at dksX8_visits_3 20 rfl rfl)
theorem dX8_visits_94 : decode cX8_visits 94 = .ok (.iload 4, 2) := dk_21 4 (dk_at dksX8_visits_4 0 rfl rfl)
theorem dX8_visits_96 : decode cX8_visits 96 = .ok (.ireturn, 1) := dk_172 (dk_at dksX8_visits_4 2 rfl rfl)
theorem q78 : (Jvm.Cond.initialized "SplitpointerModel$Disk") ∈ lw_all := lw_g (lw_at lw_m1 15 rfl) rfl
theorem q264 : (Jvm.Cond.selects "SplitpointerModel$Disk" ({ cls := "java/lang/Object", name := "getClass", desc := "()Ljava/lang/Class;" } : Jvm.MethodName) ({ cls := "java/lang/Object", name := "getClass", desc := "()Ljava/lang/Class;" } : Jvm.MethodName)) ∈ lw_all := lw_g (lw_at lw_m1 201 rfl) rfl
theorem q1405 : (Jvm.Cond.instantiable "SplitpointerModel$Disk" (8 : Nat)) ∈ lw_all := lw_g (lw_at lw_m6 142 rfl) rfl
theorem q1407 : (Jvm.Cond.instanceMethod ({ cls := "SplitpointerModel$Disk", name := "<init>", desc := "(I)V" } : Jvm.MethodName)) ∈ lw_all := lw_g (lw_at lw_m6 144 rfl) rfl
theorem q1408 : (Jvm.Cond.code ({ cls := "SplitpointerModel$Disk", name := "<init>", desc := "(I)V" } : Jvm.MethodName) prog_17_method_1_code (2 : Nat) (Option.none : Option Jvm.ClassFile.FieldType)) ∈ lw_all := lw_g (lw_at lw_m6 145 rfl) rfl
theorem q1409 : (Jvm.Cond.methodLink "SplitpointerModel$Disk" (3 : Nat) ({ cls := "java/lang/Object", name := "<init>", desc := "()V" } : Jvm.MethodName)) ∈ lw_all := lw_g (lw_at lw_m6 146 rfl) rfl
theorem q1410 : (Jvm.Cond.classLink "SplitpointerModel$Disk" (21 : Nat) "java/util/ArrayList") ∈ lw_all := lw_g (lw_at lw_m6 147 rfl) rfl
theorem q1411 : (Jvm.Cond.methodLink "SplitpointerModel$Disk" (23 : Nat) ({ cls := "java/util/ArrayList", name := "<init>", desc := "()V" } : Jvm.MethodName)) ∈ lw_all := lw_g (lw_at lw_m6 148 rfl) rfl
theorem q1412 : (Jvm.Cond.methodLink "SplitpointerModel$Disk" (31 : Nat) ({ cls := "SplitpointerModel$Disk", name := "grow", desc := "()V" } : Jvm.MethodName)) ∈ lw_all := lw_g (lw_at lw_m6 149 rfl) rfl
theorem q1413 : (Jvm.Cond.privateMethod ({ cls := "SplitpointerModel$Disk", name := "grow", desc := "()V" } : Jvm.MethodName)) ∈ lw_tbl := lw_at lw_m6 150 rfl
theorem q1414 : (Jvm.Cond.instanceMethod ({ cls := "SplitpointerModel$Disk", name := "grow", desc := "()V" } : Jvm.MethodName)) ∈ lw_all := lw_g (lw_at lw_m6 151 rfl) rfl
theorem q1415 : (Jvm.Cond.code ({ cls := "SplitpointerModel$Disk", name := "grow", desc := "()V" } : Jvm.MethodName) prog_17_method_4_code (2 : Nat) (Option.none : Option Jvm.ClassFile.FieldType)) ∈ lw_all := lw_g (lw_at lw_m6 152 rfl) rfl
theorem q1416 : (Jvm.Cond.classLink "SplitpointerModel$Disk" (63 : Nat) "SplitpointerModel$Bucket") ∈ lw_all := lw_g (lw_at lw_m6 153 rfl) rfl
theorem q1418 : (Jvm.Cond.methodLinkNest "SplitpointerModel$Disk" (85 : Nat) ({ cls := "SplitpointerModel$Bucket", name := "<init>", desc := "()V" } : Jvm.MethodName) "SplitpointerModel") ∈ lw_tbl := lw_at lw_m6 155 rfl
theorem q1425 : (Jvm.Cond.fieldLink "SplitpointerModel$Disk" (124 : Nat) "SplitpointerModel$Bucket" "rows" "Ljava/util/ArrayList;") ∈ lw_all := lw_g (lw_at lw_m6 162 rfl) rfl
theorem q1428 : (Jvm.Cond.fieldLink "SplitpointerModel$Disk" (73 : Nat) "SplitpointerModel$Bucket" "pages" "Ljava/util/ArrayList;") ∈ lw_all := lw_g (lw_at lw_m6 165 rfl) rfl
theorem q1431 : (Jvm.Cond.fieldLink "SplitpointerModel$Disk" (118 : Nat) "SplitpointerModel$Bucket" "filter" "I") ∈ lw_all := lw_g (lw_at lw_m6 168 rfl) rfl
theorem q1440 : (Jvm.Cond.methodLink "SplitpointerModel$Disk" (86 : Nat) ({ cls := "SplitpointerModel$Disk", name := "free", desc := "()I" } : Jvm.MethodName)) ∈ lw_all := lw_g (lw_at lw_m6 177 rfl) rfl
theorem q1441 : (Jvm.Cond.privateMethod ({ cls := "SplitpointerModel$Disk", name := "free", desc := "()I" } : Jvm.MethodName)) ∈ lw_tbl := lw_at lw_m6 178 rfl
theorem q1442 : (Jvm.Cond.instanceMethod ({ cls := "SplitpointerModel$Disk", name := "free", desc := "()I" } : Jvm.MethodName)) ∈ lw_all := lw_g (lw_at lw_m6 179 rfl) rfl
theorem q1443 : (Jvm.Cond.code ({ cls := "SplitpointerModel$Disk", name := "free", desc := "()I" } : Jvm.MethodName) prog_17_method_3_code (5 : Nat) (Option.some Jvm.ClassFile.FieldType.int)) ∈ lw_all := lw_g (lw_at lw_m6 180 rfl) rfl
theorem q1444 : (Jvm.Cond.methodLink "SplitpointerModel$Disk" (49 : Nat) ({ cls := "java/util/ArrayList", name := "iterator", desc := "()Ljava/util/Iterator;" } : Jvm.MethodName)) ∈ lw_all := lw_g (lw_at lw_m6 181 rfl) rfl
theorem q1467 : (Jvm.Cond.interfaceEntry "SplitpointerModel$Disk" (53 : Nat)) ∈ lw_tbl := lw_at lw_m6 204 rfl
theorem q1468 : (Jvm.Cond.methodLink "SplitpointerModel$Disk" (53 : Nat) ({ cls := "java/util/Iterator", name := "hasNext", desc := "()Z" } : Jvm.MethodName)) ∈ lw_all := lw_g (lw_at lw_m6 205 rfl) rfl
theorem q1477 : (Jvm.Cond.interfaceEntry "SplitpointerModel$Disk" (59 : Nat)) ∈ lw_tbl := lw_at lw_m6 214 rfl
theorem q1478 : (Jvm.Cond.methodLink "SplitpointerModel$Disk" (59 : Nat) ({ cls := "java/util/Iterator", name := "next", desc := "()Ljava/lang/Object;" } : Jvm.MethodName)) ∈ lw_all := lw_g (lw_at lw_m6 215 rfl) rfl
theorem q1490 : (Jvm.Cond.methodLink "SplitpointerModel$Disk" (76 : Nat) ({ cls := "java/lang/Integer", name := "valueOf", desc := "(I)Ljava/lang/Integer;" } : Jvm.MethodName)) ∈ lw_all := lw_g (lw_at lw_m6 227 rfl) rfl
theorem q1510 : (Jvm.Cond.methodLink "SplitpointerModel$Disk" (82 : Nat) ({ cls := "java/util/ArrayList", name := "contains", desc := "(Ljava/lang/Object;)Z" } : Jvm.MethodName)) ∈ lw_all := lw_g (lw_at lw_m7 7 rfl) rfl
theorem q1540 : (Jvm.Cond.selects "SplitpointerModel$Disk" ({ cls := "java/lang/Object", name := "equals", desc := "(Ljava/lang/Object;)Z" } : Jvm.MethodName) ({ cls := "java/lang/Object", name := "equals", desc := "(Ljava/lang/Object;)Z" } : Jvm.MethodName)) ∈ lw_all := lw_g (lw_at lw_m7 37 rfl) rfl
theorem q1561 : (Jvm.Cond.methodLink "SplitpointerModel$Disk" (69 : Nat) ({ cls := "java/util/ArrayList", name := "add", desc := "(Ljava/lang/Object;)Z" } : Jvm.MethodName)) ∈ lw_all := lw_g (lw_at lw_m7 58 rfl) rfl
theorem q1562 : (Jvm.Cond.fieldLink "SplitpointerModel$Disk" (28 : Nat) "SplitpointerModel$Disk" "cap" "I") ∈ lw_all := lw_g (lw_at lw_m7 59 rfl) rfl
theorem q1564 : (Jvm.Cond.fieldLink "SplitpointerModel$Disk" (9 : Nat) "SplitpointerModel$Disk" "lower" "I") ∈ lw_all := lw_g (lw_at lw_m7 61 rfl) rfl
theorem q1566 : (Jvm.Cond.fieldLink "SplitpointerModel$Disk" (15 : Nat) "SplitpointerModel$Disk" "upper" "I") ∈ lw_all := lw_g (lw_at lw_m7 63 rfl) rfl
theorem q1568 : (Jvm.Cond.fieldLink "SplitpointerModel$Disk" (18 : Nat) "SplitpointerModel$Disk" "choice" "I") ∈ lw_all := lw_g (lw_at lw_m7 65 rfl) rfl
theorem q1570 : (Jvm.Cond.fieldLink "SplitpointerModel$Disk" (37 : Nat) "SplitpointerModel$Disk" "seed" "I") ∈ lw_all := lw_g (lw_at lw_m7 67 rfl) rfl
theorem q1572 : (Jvm.Cond.fieldLink "SplitpointerModel$Disk" (40 : Nat) "SplitpointerModel$Disk" "splits" "I") ∈ lw_all := lw_g (lw_at lw_m7 69 rfl) rfl
theorem q1574 : (Jvm.Cond.fieldLink "SplitpointerModel$Disk" (43 : Nat) "SplitpointerModel$Disk" "merges" "I") ∈ lw_all := lw_g (lw_at lw_m7 71 rfl) rfl
theorem q1576 : (Jvm.Cond.fieldLink "SplitpointerModel$Disk" (24 : Nat) "SplitpointerModel$Disk" "buckets" "Ljava/util/ArrayList;") ∈ lw_all := lw_g (lw_at lw_m7 73 rfl) rfl
theorem q1578 : (Jvm.Cond.laysFinal "SplitpointerModel$Disk" "SplitpointerModel$Disk" "cap" "I") ∈ lw_all := lw_g (lw_at lw_m7 75 rfl) rfl
theorem q1579 : (Jvm.Cond.soleField "SplitpointerModel$Disk" "cap") ∈ lw_all := lw_g (lw_at lw_m7 76 rfl) rfl
theorem q1580 : (Jvm.Cond.lays "SplitpointerModel$Disk" "SplitpointerModel$Disk" "lower" "I") ∈ lw_all := lw_g (lw_at lw_m7 77 rfl) rfl
theorem q1581 : (Jvm.Cond.soleField "SplitpointerModel$Disk" "lower") ∈ lw_all := lw_g (lw_at lw_m7 78 rfl) rfl
theorem q1582 : (Jvm.Cond.lays "SplitpointerModel$Disk" "SplitpointerModel$Disk" "upper" "I") ∈ lw_all := lw_g (lw_at lw_m7 79 rfl) rfl
theorem q1583 : (Jvm.Cond.soleField "SplitpointerModel$Disk" "upper") ∈ lw_all := lw_g (lw_at lw_m7 80 rfl) rfl
theorem q1584 : (Jvm.Cond.lays "SplitpointerModel$Disk" "SplitpointerModel$Disk" "choice" "I") ∈ lw_all := lw_g (lw_at lw_m7 81 rfl) rfl
theorem q1585 : (Jvm.Cond.soleField "SplitpointerModel$Disk" "choice") ∈ lw_all := lw_g (lw_at lw_m7 82 rfl) rfl
theorem q1586 : (Jvm.Cond.lays "SplitpointerModel$Disk" "SplitpointerModel$Disk" "seed" "I") ∈ lw_all := lw_g (lw_at lw_m7 83 rfl) rfl
theorem q1587 : (Jvm.Cond.soleField "SplitpointerModel$Disk" "seed") ∈ lw_all := lw_g (lw_at lw_m7 84 rfl) rfl
theorem q1588 : (Jvm.Cond.lays "SplitpointerModel$Disk" "SplitpointerModel$Disk" "splits" "I") ∈ lw_all := lw_g (lw_at lw_m7 85 rfl) rfl
theorem q1589 : (Jvm.Cond.soleField "SplitpointerModel$Disk" "splits") ∈ lw_all := lw_g (lw_at lw_m7 86 rfl) rfl
theorem q1590 : (Jvm.Cond.lays "SplitpointerModel$Disk" "SplitpointerModel$Disk" "merges" "I") ∈ lw_all := lw_g (lw_at lw_m7 87 rfl) rfl
theorem q1591 : (Jvm.Cond.soleField "SplitpointerModel$Disk" "merges") ∈ lw_all := lw_g (lw_at lw_m7 88 rfl) rfl
theorem q1592 : (Jvm.Cond.laysFinal "SplitpointerModel$Disk" "SplitpointerModel$Disk" "buckets" "Ljava/util/ArrayList;") ∈ lw_all := lw_g (lw_at lw_m7 89 rfl) rfl
theorem q1593 : (Jvm.Cond.soleField "SplitpointerModel$Disk" "buckets") ∈ lw_all := lw_g (lw_at lw_m7 90 rfl) rfl
theorem q1594 : (Jvm.Cond.superclass "SplitpointerModel$Disk" "java/lang/Object") ∈ lw_all := lw_g (lw_at lw_m7 91 rfl) rfl
theorem q1657 : (Jvm.Cond.instanceMethod ({ cls := "SplitpointerModel$Disk", name := "records", desc := "()I" } : Jvm.MethodName)) ∈ lw_all := lw_g (lw_at lw_m7 154 rfl) rfl
theorem q1658 : (Jvm.Cond.selects "SplitpointerModel$Disk" ({ cls := "SplitpointerModel$Disk", name := "records", desc := "()I" } : Jvm.MethodName) ({ cls := "SplitpointerModel$Disk", name := "records", desc := "()I" } : Jvm.MethodName)) ∈ lw_all := lw_g (lw_at lw_m7 155 rfl) rfl
theorem q1659 : (Jvm.Cond.code ({ cls := "SplitpointerModel$Disk", name := "records", desc := "()I" } : Jvm.MethodName) prog_17_method_12_code (4 : Nat) (Option.some Jvm.ClassFile.FieldType.int)) ∈ lw_all := lw_g (lw_at lw_m7 156 rfl) rfl
theorem q1660 : (Jvm.Cond.methodLink "SplitpointerModel$Disk" (90 : Nat) ({ cls := "java/util/ArrayList", name := "size", desc := "()I" } : Jvm.MethodName)) ∈ lw_all := lw_g (lw_at lw_m7 157 rfl) rfl
theorem q1666 : (Jvm.Cond.instanceMethod ({ cls := "SplitpointerModel$Disk", name := "copy", desc := "()LSplitpointerModel$Disk;" } : Jvm.MethodName)) ∈ lw_all := lw_g (lw_at lw_m7 163 rfl) rfl
theorem q1667 : (Jvm.Cond.selects "SplitpointerModel$Disk" ({ cls := "SplitpointerModel$Disk", name := "copy", desc := "()LSplitpointerModel$Disk;" } : Jvm.MethodName) ({ cls := "SplitpointerModel$Disk", name := "copy", desc := "()LSplitpointerModel$Disk;" } : Jvm.MethodName)) ∈ lw_all := lw_g (lw_at lw_m7 164 rfl) rfl
theorem q1668 : (Jvm.Cond.code ({ cls := "SplitpointerModel$Disk", name := "copy", desc := "()LSplitpointerModel$Disk;" } : Jvm.MethodName) prog_17_method_2_code (4 : Nat) (Option.some (Jvm.ClassFile.FieldType.object "SplitpointerModel$Disk"))) ∈ lw_all := lw_g (lw_at lw_m7 165 rfl) rfl
theorem q1669 : (Jvm.Cond.classLink "SplitpointerModel$Disk" (10 : Nat) "SplitpointerModel$Disk") ∈ lw_all := lw_g (lw_at lw_m7 166 rfl) rfl
theorem q1670 : (Jvm.Cond.methodLink "SplitpointerModel$Disk" (34 : Nat) ({ cls := "SplitpointerModel$Disk", name := "<init>", desc := "(I)V" } : Jvm.MethodName)) ∈ lw_all := lw_g (lw_at lw_m7 167 rfl) rfl
theorem q1671 : (Jvm.Cond.methodLink "SplitpointerModel$Disk" (46 : Nat) ({ cls := "java/util/ArrayList", name := "clear", desc := "()V" } : Jvm.MethodName)) ∈ lw_all := lw_g (lw_at lw_m7 168 rfl) rfl
theorem q1672 : (Jvm.Cond.methodLink "SplitpointerModel$Disk" (65 : Nat) ({ cls := "SplitpointerModel$Bucket", name := "copy", desc := "()LSplitpointerModel$Bucket;" } : Jvm.MethodName)) ∈ lw_all := lw_g (lw_at lw_m7 169 rfl) rfl
theorem q1704 : (Jvm.Cond.instanceMethod ({ cls := "SplitpointerModel$Disk", name := "act", desc := "([I)I" } : Jvm.MethodName)) ∈ lw_all := lw_g (lw_at lw_m7 201 rfl) rfl
theorem q1705 : (Jvm.Cond.selects "SplitpointerModel$Disk" ({ cls := "SplitpointerModel$Disk", name := "act", desc := "([I)I" } : Jvm.MethodName) ({ cls := "SplitpointerModel$Disk", name := "act", desc := "([I)I" } : Jvm.MethodName)) ∈ lw_all := lw_g (lw_at lw_m7 202 rfl) rfl
theorem q1706 : (Jvm.Cond.code ({ cls := "SplitpointerModel$Disk", name := "act", desc := "([I)I" } : Jvm.MethodName) prog_17_method_23_code (2 : Nat) (Option.some Jvm.ClassFile.FieldType.int)) ∈ lw_all := lw_g (lw_at lw_m7 203 rfl) rfl
theorem q1707 : (Jvm.Cond.methodLink "SplitpointerModel$Disk" (177 : Nat) ({ cls := "SplitpointerModel$Disk", name := "put", desc := "(II)I" } : Jvm.MethodName)) ∈ lw_all := lw_g (lw_at lw_m7 204 rfl) rfl
theorem q1708 : (Jvm.Cond.privateMethod ({ cls := "SplitpointerModel$Disk", name := "put", desc := "(II)I" } : Jvm.MethodName)) ∈ lw_tbl := lw_at lw_m7 205 rfl
theorem q1709 : (Jvm.Cond.instanceMethod ({ cls := "SplitpointerModel$Disk", name := "put", desc := "(II)I" } : Jvm.MethodName)) ∈ lw_all := lw_g (lw_at lw_m7 206 rfl) rfl
theorem q1710 : (Jvm.Cond.code ({ cls := "SplitpointerModel$Disk", name := "put", desc := "(II)I" } : Jvm.MethodName) prog_17_method_20_code (4 : Nat) (Option.some Jvm.ClassFile.FieldType.int)) ∈ lw_all := lw_g (lw_at lw_m7 207 rfl) rfl
theorem q1711 : (Jvm.Cond.methodLink "SplitpointerModel$Disk" (158 : Nat) ({ cls := "SplitpointerModel$Disk", name := "get", desc := "(I)I" } : Jvm.MethodName)) ∈ lw_all := lw_g (lw_at lw_m7 208 rfl) rfl
theorem q1712 : (Jvm.Cond.instanceMethod ({ cls := "SplitpointerModel$Disk", name := "get", desc := "(I)I" } : Jvm.MethodName)) ∈ lw_all := lw_g (lw_at lw_m7 209 rfl) rfl
theorem q1713 : (Jvm.Cond.selects "SplitpointerModel$Disk" ({ cls := "SplitpointerModel$Disk", name := "get", desc := "(I)I" } : Jvm.MethodName) ({ cls := "SplitpointerModel$Disk", name := "get", desc := "(I)I" } : Jvm.MethodName)) ∈ lw_all := lw_g (lw_at lw_m7 210 rfl) rfl
theorem q1714 : (Jvm.Cond.code ({ cls := "SplitpointerModel$Disk", name := "get", desc := "(I)I" } : Jvm.MethodName) prog_17_method_10_code (3 : Nat) (Option.some Jvm.ClassFile.FieldType.int)) ∈ lw_all := lw_g (lw_at lw_m7 211 rfl) rfl
theorem q1715 : (Jvm.Cond.methodLink "SplitpointerModel$Disk" (114 : Nat) ({ cls := "SplitpointerModel$Disk", name := "of", desc := "(I)LSplitpointerModel$Bucket;" } : Jvm.MethodName)) ∈ lw_all := lw_g (lw_at lw_m7 212 rfl) rfl
theorem q1716 : (Jvm.Cond.instanceMethod ({ cls := "SplitpointerModel$Disk", name := "of", desc := "(I)LSplitpointerModel$Bucket;" } : Jvm.MethodName)) ∈ lw_all := lw_g (lw_at lw_m7 213 rfl) rfl
theorem q1717 : (Jvm.Cond.selects "SplitpointerModel$Disk" ({ cls := "SplitpointerModel$Disk", name := "of", desc := "(I)LSplitpointerModel$Bucket;" } : Jvm.MethodName) ({ cls := "SplitpointerModel$Disk", name := "of", desc := "(I)LSplitpointerModel$Bucket;" } : Jvm.MethodName)) ∈ lw_all := lw_g (lw_at lw_m7 214 rfl) rfl
theorem q1718 : (Jvm.Cond.code ({ cls := "SplitpointerModel$Disk", name := "of", desc := "(I)LSplitpointerModel$Bucket;" } : Jvm.MethodName) prog_17_method_8_code (2 : Nat) (Option.some (Jvm.ClassFile.FieldType.object "SplitpointerModel$Bucket"))) ∈ lw_all := lw_g (lw_at lw_m7 215 rfl) rfl
theorem q1719 : (Jvm.Cond.methodLink "SplitpointerModel$Disk" (93 : Nat) ({ cls := "SplitpointerModel$Disk", name := "hash", desc := "(I)I" } : Jvm.MethodName)) ∈ lw_all := lw_g (lw_at lw_m7 216 rfl) rfl
theorem q1720 : (Jvm.Cond.instanceMethod ({ cls := "SplitpointerModel$Disk", name := "hash", desc := "(I)I" } : Jvm.MethodName)) ∈ lw_all := lw_g (lw_at lw_m7 217 rfl) rfl
theorem q1721 : (Jvm.Cond.selects "SplitpointerModel$Disk" ({ cls := "SplitpointerModel$Disk", name := "hash", desc := "(I)I" } : Jvm.MethodName) ({ cls := "SplitpointerModel$Disk", name := "hash", desc := "(I)I" } : Jvm.MethodName)) ∈ lw_all := lw_g (lw_at lw_m7 218 rfl) rfl
theorem q1722 : (Jvm.Cond.code ({ cls := "SplitpointerModel$Disk", name := "hash", desc := "(I)I" } : Jvm.MethodName) prog_17_method_6_code (6 : Nat) (Option.some Jvm.ClassFile.FieldType.int)) ∈ lw_all := lw_g (lw_at lw_m7 219 rfl) rfl
theorem q1723 : (Jvm.Cond.methodLink "SplitpointerModel$Disk" (100 : Nat) ({ cls := "SplitpointerModel$Disk", name := "many", desc := "()I" } : Jvm.MethodName)) ∈ lw_all := lw_g (lw_at lw_m7 220 rfl) rfl
theorem q1724 : (Jvm.Cond.instanceMethod ({ cls := "SplitpointerModel$Disk", name := "many", desc := "()I" } : Jvm.MethodName)) ∈ lw_all := lw_g (lw_at lw_m7 221 rfl) rfl
theorem q1725 : (Jvm.Cond.selects "SplitpointerModel$Disk" ({ cls := "SplitpointerModel$Disk", name := "many", desc := "()I" } : Jvm.MethodName) ({ cls := "SplitpointerModel$Disk", name := "many", desc := "()I" } : Jvm.MethodName)) ∈ lw_all := lw_g (lw_at lw_m7 222 rfl) rfl
theorem q1726 : (Jvm.Cond.code ({ cls := "SplitpointerModel$Disk", name := "many", desc := "()I" } : Jvm.MethodName) prog_17_method_5_code (1 : Nat) (Option.some Jvm.ClassFile.FieldType.int)) ∈ lw_all := lw_g (lw_at lw_m7 223 rfl) rfl
theorem q1727 : (Jvm.Cond.methodLinkNest "SplitpointerModel$Disk" (103 : Nat) ({ cls := "SplitpointerModel", name := "address", desc := "(II)I" } : Jvm.MethodName) "SplitpointerModel") ∈ lw_tbl := lw_at lw_m7 224 rfl
theorem q1738 : (Jvm.Cond.methodLink "SplitpointerModel$Disk" (107 : Nat) ({ cls := "java/util/ArrayList", name := "get", desc := "(I)Ljava/lang/Object;" } : Jvm.MethodName)) ∈ lw_all := lw_g (lw_at lw_m7 235 rfl) rfl
theorem q1739 : (Jvm.Cond.methodLink "SplitpointerModel$Disk" (121 : Nat) ({ cls := "SplitpointerModel$Bucket", name := "at", desc := "(I)I" } : Jvm.MethodName)) ∈ lw_all := lw_g (lw_at lw_m7 236 rfl) rfl
theorem q1745 : (Jvm.Cond.classLink "SplitpointerModel$Disk" (127 : Nat) "[I") ∈ lw_all := lw_g (lw_at lw_m8 2 rfl) rfl
theorem q1746 : (Jvm.Cond.methodLink "SplitpointerModel$Disk" (154 : Nat) ({ cls := "SplitpointerModel$Disk", name := "append", desc := "([I)V" } : Jvm.MethodName)) ∈ lw_all := lw_g (lw_at lw_m8 3 rfl) rfl
theorem q1747 : (Jvm.Cond.privateMethod ({ cls := "SplitpointerModel$Disk", name := "append", desc := "([I)V" } : Jvm.MethodName)) ∈ lw_tbl := lw_at lw_m8 4 rfl
theorem q1748 : (Jvm.Cond.instanceMethod ({ cls := "SplitpointerModel$Disk", name := "append", desc := "([I)V" } : Jvm.MethodName)) ∈ lw_all := lw_g (lw_at lw_m8 5 rfl) rfl
theorem q1749 : (Jvm.Cond.code ({ cls := "SplitpointerModel$Disk", name := "append", desc := "([I)V" } : Jvm.MethodName) prog_17_method_16_code (3 : Nat) (Option.none : Option Jvm.ClassFile.FieldType)) ∈ lw_all := lw_g (lw_at lw_m8 6 rfl) rfl
theorem q1750 : (Jvm.Cond.methodLinkNest "SplitpointerModel$Disk" (111 : Nat) ({ cls := "SplitpointerModel", name := "both", desc := "(I)I" } : Jvm.MethodName) "SplitpointerModel") ∈ lw_tbl := lw_at lw_m8 7 rfl
theorem q1753 : (Jvm.Cond.methodLink "SplitpointerModel$Disk" (160 : Nat) ({ cls := "SplitpointerModel$Disk", name := "load", desc := "()I" } : Jvm.MethodName)) ∈ lw_all := lw_g (lw_at lw_m8 10 rfl) rfl
theorem q1754 : (Jvm.Cond.instanceMethod ({ cls := "SplitpointerModel$Disk", name := "load", desc := "()I" } : Jvm.MethodName)) ∈ lw_all := lw_g (lw_at lw_m8 11 rfl) rfl
theorem q1755 : (Jvm.Cond.selects "SplitpointerModel$Disk" ({ cls := "SplitpointerModel$Disk", name := "load", desc := "()I" } : Jvm.MethodName) ({ cls := "SplitpointerModel$Disk", name := "load", desc := "()I" } : Jvm.MethodName)) ∈ lw_all := lw_g (lw_at lw_m8 12 rfl) rfl
theorem q1756 : (Jvm.Cond.code ({ cls := "SplitpointerModel$Disk", name := "load", desc := "()I" } : Jvm.MethodName) prog_17_method_13_code (1 : Nat) (Option.some Jvm.ClassFile.FieldType.int)) ∈ lw_all := lw_g (lw_at lw_m8 13 rfl) rfl
theorem q1757 : (Jvm.Cond.methodLink "SplitpointerModel$Disk" (133 : Nat) ({ cls := "SplitpointerModel$Disk", name := "records", desc := "()I" } : Jvm.MethodName)) ∈ lw_all := lw_g (lw_at lw_m8 14 rfl) rfl
theorem q1758 : (Jvm.Cond.methodLink "SplitpointerModel$Disk" (163 : Nat) ({ cls := "SplitpointerModel$Disk", name := "split", desc := "()V" } : Jvm.MethodName)) ∈ lw_all := lw_g (lw_at lw_m8 15 rfl) rfl
theorem q1759 : (Jvm.Cond.privateMethod ({ cls := "SplitpointerModel$Disk", name := "split", desc := "()V" } : Jvm.MethodName)) ∈ lw_tbl := lw_at lw_m8 16 rfl
theorem q1760 : (Jvm.Cond.instanceMethod ({ cls := "SplitpointerModel$Disk", name := "split", desc := "()V" } : Jvm.MethodName)) ∈ lw_all := lw_g (lw_at lw_m8 17 rfl) rfl
theorem q1761 : (Jvm.Cond.code ({ cls := "SplitpointerModel$Disk", name := "split", desc := "()V" } : Jvm.MethodName) prog_17_method_18_code (5 : Nat) (Option.none : Option Jvm.ClassFile.FieldType)) ∈ lw_all := lw_g (lw_at lw_m8 18 rfl) rfl
theorem q1762 : (Jvm.Cond.methodLinkNest "SplitpointerModel$Disk" (144 : Nat) ({ cls := "SplitpointerModel", name := "pointer", desc := "(I)I" } : Jvm.MethodName) "SplitpointerModel") ∈ lw_tbl := lw_at lw_m8 19 rfl
theorem q1765 : (Jvm.Cond.methodLink "SplitpointerModel$Disk" (147 : Nat) ({ cls := "java/util/ArrayList", name := "<init>", desc := "(Ljava/util/Collection;)V" } : Jvm.MethodName)) ∈ lw_all := lw_g (lw_at lw_m8 22 rfl) rfl
theorem q1779 : (Jvm.Cond.methodLink "SplitpointerModel$Disk" (150 : Nat) ({ cls := "SplitpointerModel$Disk", name := "trim", desc := "(LSplitpointerModel$Bucket;)V" } : Jvm.MethodName)) ∈ lw_all := lw_g (lw_at lw_m8 36 rfl) rfl
theorem q1780 : (Jvm.Cond.privateMethod ({ cls := "SplitpointerModel$Disk", name := "trim", desc := "(LSplitpointerModel$Bucket;)V" } : Jvm.MethodName)) ∈ lw_tbl := lw_at lw_m8 37 rfl
theorem q1781 : (Jvm.Cond.instanceMethod ({ cls := "SplitpointerModel$Disk", name := "trim", desc := "(LSplitpointerModel$Bucket;)V" } : Jvm.MethodName)) ∈ lw_all := lw_g (lw_at lw_m8 38 rfl) rfl
theorem q1782 : (Jvm.Cond.code ({ cls := "SplitpointerModel$Disk", name := "trim", desc := "(LSplitpointerModel$Bucket;)V" } : Jvm.MethodName) prog_17_method_17_code (2 : Nat) (Option.none : Option Jvm.ClassFile.FieldType)) ∈ lw_all := lw_g (lw_at lw_m8 39 rfl) rfl
theorem q1783 : (Jvm.Cond.methodLink "SplitpointerModel$Disk" (141 : Nat) ({ cls := "java/util/ArrayList", name := "remove", desc := "(I)Ljava/lang/Object;" } : Jvm.MethodName)) ∈ lw_all := lw_g (lw_at lw_m8 40 rfl) rfl
theorem q1784 : (Jvm.Cond.methodLink "SplitpointerModel$Disk" (182 : Nat) ({ cls := "SplitpointerModel$Disk", name := "drop", desc := "(I)I" } : Jvm.MethodName)) ∈ lw_all := lw_g (lw_at lw_m8 41 rfl) rfl
theorem q1785 : (Jvm.Cond.privateMethod ({ cls := "SplitpointerModel$Disk", name := "drop", desc := "(I)I" } : Jvm.MethodName)) ∈ lw_tbl := lw_at lw_m8 42 rfl
theorem q1786 : (Jvm.Cond.instanceMethod ({ cls := "SplitpointerModel$Disk", name := "drop", desc := "(I)I" } : Jvm.MethodName)) ∈ lw_all := lw_g (lw_at lw_m8 43 rfl) rfl
theorem q1787 : (Jvm.Cond.code ({ cls := "SplitpointerModel$Disk", name := "drop", desc := "(I)I" } : Jvm.MethodName) prog_17_method_21_code (6 : Nat) (Option.some Jvm.ClassFile.FieldType.int)) ∈ lw_all := lw_g (lw_at lw_m8 44 rfl) rfl
theorem q1788 : (Jvm.Cond.methodLink "SplitpointerModel$Disk" (166 : Nat) ({ cls := "java/util/ArrayList", name := "set", desc := "(ILjava/lang/Object;)Ljava/lang/Object;" } : Jvm.MethodName)) ∈ lw_all := lw_g (lw_at lw_m8 45 rfl) rfl
theorem q1789 : (Jvm.Cond.methodLink "SplitpointerModel$Disk" (170 : Nat) ({ cls := "SplitpointerModel$Disk", name := "merge", desc := "()V" } : Jvm.MethodName)) ∈ lw_all := lw_g (lw_at lw_m8 46 rfl) rfl
theorem q1790 : (Jvm.Cond.privateMethod ({ cls := "SplitpointerModel$Disk", name := "merge", desc := "()V" } : Jvm.MethodName)) ∈ lw_tbl := lw_at lw_m8 47 rfl
theorem q1791 : (Jvm.Cond.instanceMethod ({ cls := "SplitpointerModel$Disk", name := "merge", desc := "()V" } : Jvm.MethodName)) ∈ lw_all := lw_g (lw_at lw_m8 48 rfl) rfl
theorem q1792 : (Jvm.Cond.code ({ cls := "SplitpointerModel$Disk", name := "merge", desc := "()V" } : Jvm.MethodName) prog_17_method_19_code (5 : Nat) (Option.none : Option Jvm.ClassFile.FieldType)) ∈ lw_all := lw_g (lw_at lw_m8 49 rfl) rfl
theorem q1793 : (Jvm.Cond.methodLink "SplitpointerModel$Disk" (185 : Nat) ({ cls := "SplitpointerModel$Disk", name := "rehash", desc := "(II)I" } : Jvm.MethodName)) ∈ lw_all := lw_g (lw_at lw_m8 50 rfl) rfl
theorem q1794 : (Jvm.Cond.privateMethod ({ cls := "SplitpointerModel$Disk", name := "rehash", desc := "(II)I" } : Jvm.MethodName)) ∈ lw_tbl := lw_at lw_m8 51 rfl
theorem q1795 : (Jvm.Cond.instanceMethod ({ cls := "SplitpointerModel$Disk", name := "rehash", desc := "(II)I" } : Jvm.MethodName)) ∈ lw_all := lw_g (lw_at lw_m8 52 rfl) rfl
theorem q1796 : (Jvm.Cond.code ({ cls := "SplitpointerModel$Disk", name := "rehash", desc := "(II)I" } : Jvm.MethodName) prog_17_method_22_code (6 : Nat) (Option.some Jvm.ClassFile.FieldType.int)) ∈ lw_all := lw_g (lw_at lw_m8 53 rfl) rfl
theorem q1797 : (Jvm.Cond.methodLink "SplitpointerModel$Disk" (173 : Nat) ({ cls := "SplitpointerModel$Disk", name := "all", desc := "()Ljava/util/ArrayList;" } : Jvm.MethodName)) ∈ lw_all := lw_g (lw_at lw_m8 54 rfl) rfl
theorem q1798 : (Jvm.Cond.instanceMethod ({ cls := "SplitpointerModel$Disk", name := "all", desc := "()Ljava/util/ArrayList;" } : Jvm.MethodName)) ∈ lw_all := lw_g (lw_at lw_m8 55 rfl) rfl
theorem q1799 : (Jvm.Cond.selects "SplitpointerModel$Disk" ({ cls := "SplitpointerModel$Disk", name := "all", desc := "()Ljava/util/ArrayList;" } : Jvm.MethodName) ({ cls := "SplitpointerModel$Disk", name := "all", desc := "()Ljava/util/ArrayList;" } : Jvm.MethodName)) ∈ lw_all := lw_g (lw_at lw_m8 56 rfl) rfl
theorem q1800 : (Jvm.Cond.code ({ cls := "SplitpointerModel$Disk", name := "all", desc := "()Ljava/util/ArrayList;" } : Jvm.MethodName) prog_17_method_11_code (4 : Nat) (Option.some (Jvm.ClassFile.FieldType.object "java/util/ArrayList"))) ∈ lw_all := lw_g (lw_at lw_m8 57 rfl) rfl
theorem q1801 : (Jvm.Cond.methodLink "SplitpointerModel$Disk" (129 : Nat) ({ cls := "java/util/ArrayList", name := "addAll", desc := "(Ljava/util/Collection;)Z" } : Jvm.MethodName)) ∈ lw_all := lw_g (lw_at lw_m8 58 rfl) rfl
theorem q1802 : (Jvm.Cond.methodLink "SplitpointerModel$Disk" (180 : Nat) ({ cls := "SplitpointerModel$Disk", name := "pages", desc := "()I" } : Jvm.MethodName)) ∈ lw_all := lw_g (lw_at lw_m8 59 rfl) rfl
theorem q1803 : (Jvm.Cond.instanceMethod ({ cls := "SplitpointerModel$Disk", name := "pages", desc := "()I" } : Jvm.MethodName)) ∈ lw_all := lw_g (lw_at lw_m8 60 rfl) rfl
theorem q1804 : (Jvm.Cond.selects "SplitpointerModel$Disk" ({ cls := "SplitpointerModel$Disk", name := "pages", desc := "()I" } : Jvm.MethodName) ({ cls := "SplitpointerModel$Disk", name := "pages", desc := "()I" } : Jvm.MethodName)) ∈ lw_all := lw_g (lw_at lw_m8 61 rfl) rfl
theorem q1805 : (Jvm.Cond.code ({ cls := "SplitpointerModel$Disk", name := "pages", desc := "()I" } : Jvm.MethodName) prog_17_method_14_code (4 : Nat) (Option.some Jvm.ClassFile.FieldType.int)) ∈ lw_all := lw_g (lw_at lw_m8 62 rfl) rfl
theorem q1838 : (Jvm.Cond.instanceMethod ({ cls := "SplitpointerModel$Disk", name := "has", desc := "(I)Z" } : Jvm.MethodName)) ∈ lw_all := lw_g (lw_at lw_m8 95 rfl) rfl
theorem q1839 : (Jvm.Cond.selects "SplitpointerModel$Disk" ({ cls := "SplitpointerModel$Disk", name := "has", desc := "(I)Z" } : Jvm.MethodName) ({ cls := "SplitpointerModel$Disk", name := "has", desc := "(I)Z" } : Jvm.MethodName)) ∈ lw_all := lw_g (lw_at lw_m8 96 rfl) rfl
theorem q1840 : (Jvm.Cond.code ({ cls := "SplitpointerModel$Disk", name := "has", desc := "(I)Z" } : Jvm.MethodName) prog_17_method_9_code (3 : Nat) (Option.some Jvm.ClassFile.FieldType.boolean)) ∈ lw_all := lw_g (lw_at lw_m8 97 rfl) rfl
theorem q1862 : (Jvm.Cond.instanceMethod ({ cls := "SplitpointerModel$Disk", name := "place", desc := "(I)I" } : Jvm.MethodName)) ∈ lw_all := lw_g (lw_at lw_m8 119 rfl) rfl
theorem q1863 : (Jvm.Cond.selects "SplitpointerModel$Disk" ({ cls := "SplitpointerModel$Disk", name := "place", desc := "(I)I" } : Jvm.MethodName) ({ cls := "SplitpointerModel$Disk", name := "place", desc := "(I)I" } : Jvm.MethodName)) ∈ lw_all := lw_g (lw_at lw_m8 120 rfl) rfl
theorem q1864 : (Jvm.Cond.code ({ cls := "SplitpointerModel$Disk", name := "place", desc := "(I)I" } : Jvm.MethodName) prog_17_method_7_code (2 : Nat) (Option.some Jvm.ClassFile.FieldType.int)) ∈ lw_all := lw_g (lw_at lw_m8 121 rfl) rfl
theorem q1865 : (Jvm.Cond.methodLinkNest "SplitpointerModel$Disk" (97 : Nat) ({ cls := "SplitpointerModel", name := "turned", desc := "(I)I" } : Jvm.MethodName) "SplitpointerModel") ∈ lw_tbl := lw_at lw_m8 122 rfl
theorem q1933 : (Jvm.Cond.instanceMethod ({ cls := "SplitpointerModel$Disk", name := "longest", desc := "()I" } : Jvm.MethodName)) ∈ lw_all := lw_g (lw_at lw_m8 190 rfl) rfl
theorem q1934 : (Jvm.Cond.selects "SplitpointerModel$Disk" ({ cls := "SplitpointerModel$Disk", name := "longest", desc := "()I" } : Jvm.MethodName) ({ cls := "SplitpointerModel$Disk", name := "longest", desc := "()I" } : Jvm.MethodName)) ∈ lw_all := lw_g (lw_at lw_m8 191 rfl) rfl
theorem q1935 : (Jvm.Cond.code ({ cls := "SplitpointerModel$Disk", name := "longest", desc := "()I" } : Jvm.MethodName) prog_17_method_15_code (4 : Nat) (Option.some Jvm.ClassFile.FieldType.int)) ∈ lw_all := lw_g (lw_at lw_m8 192 rfl) rfl
theorem q1936 : (Jvm.Cond.methodLink "SplitpointerModel$Disk" (136 : Nat) ({ cls := "java/lang/Math", name := "max", desc := "(II)I" } : Jvm.MethodName)) ∈ lw_all := lw_g (lw_at lw_m8 193 rfl) rfl
theorem q2005 : (Jvm.Cond.instanceMethod ({ cls := "SplitpointerModel$Disk", name := "visits", desc := "(ZI)I" } : Jvm.MethodName)) ∈ lw_all := lw_g (lw_at lw_m9 22 rfl) rfl
theorem q2006 : (Jvm.Cond.selects "SplitpointerModel$Disk" ({ cls := "SplitpointerModel$Disk", name := "visits", desc := "(ZI)I" } : Jvm.MethodName) ({ cls := "SplitpointerModel$Disk", name := "visits", desc := "(ZI)I" } : Jvm.MethodName)) ∈ lw_all := lw_g (lw_at lw_m9 23 rfl) rfl
theorem q2007 : (Jvm.Cond.code ({ cls := "SplitpointerModel$Disk", name := "visits", desc := "(ZI)I" } : Jvm.MethodName) prog_17_method_24_code (7 : Nat) (Option.some Jvm.ClassFile.FieldType.int)) ∈ lw_all := lw_g (lw_at lw_m9 24 rfl) rfl
theorem q2008 : (Jvm.Cond.methodLinkNest "SplitpointerModel$Disk" (188 : Nat) ({ cls := "SplitpointerModel", name := "depth", desc := "(II)I" } : Jvm.MethodName) "SplitpointerModel") ∈ lw_tbl := lw_at lw_m9 25 rfl
theorem q2009 : (Jvm.Cond.methodLinkNest "SplitpointerModel$Disk" (191 : Nat) ({ cls := "SplitpointerModel", name := "one", desc := "(Z)I" } : Jvm.MethodName) "SplitpointerModel") ∈ lw_tbl := lw_at lw_m9 26 rfl
theorem q2070 : (Jvm.Cond.castable "SplitpointerModel$Disk" "java/lang/Object") ∈ lw_tbl := lw_at lw_m9 87 rfl
theorem in_X8 : ∀ w ∈ wsX80, w ∈ lw_all := lw_in wsX80 [1578, 1580, 1582, 1584, 1586, 1588, 1590, 1592] (by decide +kernel) (by decide +kernel)
