theorem q470 : (Jvm.Cond.interfaceMethod "Splitpointer$Act" "Splitpointer$Act" "on" "(LSplitpointer$Store;)V") ∈ lw_tbl := lw_at lw_m2 167 rfl
set_option maxRecDepth 100000
theorem q471 : (Jvm.Cond.declares ({ cls := "Splitpointer$Act", name := "on", desc := "(LSplitpointer$Store;)V" } : Jvm.MethodName)) ∈ lw_tbl := lw_at lw_m2 168 rfl
theorem q769 : (Jvm.Cond.sameMethod "[B" "java/lang/Object" "clone" "()Ljava/lang/Object;") ∈ lw_all := lw_g (lw_at lw_m3 226 rfl) rfl
set_option maxRecDepth 100000
theorem q772 : (Jvm.Cond.selects "[B" ({ cls := "[B", name := "clone", desc := "()Ljava/lang/Object;" } : Jvm.MethodName) ({ cls := "java/lang/Object", name := "clone", desc := "()Ljava/lang/Object;" } : Jvm.MethodName)) ∈ lw_all := lw_g (lw_at lw_m3 229 rfl) rfl
theorem q773 : (Jvm.Cond.castable "[B" "java/lang/Cloneable") ∈ lw_tbl := lw_at lw_m3 230 rfl
theorem q2093 : (Jvm.Cond.castable "[B" "java/lang/Object") ∈ lw_tbl := lw_at lw_m9 110 rfl
theorem q1685 : (Jvm.Cond.sameMethod "[I" "java/lang/Object" "clone" "()Ljava/lang/Object;") ∈ lw_all := lw_g (lw_at lw_m7 182 rfl) rfl
set_option maxRecDepth 100000
theorem q1686 : (Jvm.Cond.selects "[I" ({ cls := "[I", name := "clone", desc := "()Ljava/lang/Object;" } : Jvm.MethodName) ({ cls := "java/lang/Object", name := "clone", desc := "()Ljava/lang/Object;" } : Jvm.MethodName)) ∈ lw_all := lw_g (lw_at lw_m7 183 rfl) rfl
theorem q1687 : (Jvm.Cond.castable "[I" "java/lang/Cloneable") ∈ lw_tbl := lw_at lw_m7 184 rfl
theorem q2092 : (Jvm.Cond.castable "[I" "java/lang/Object") ∈ lw_tbl := lw_at lw_m9 109 rfl
theorem q2091 : (Jvm.Cond.castable "[LSplitpointer$Client;" "java/lang/Object") ∈ lw_tbl := lw_at lw_m9 108 rfl
set_option maxRecDepth 100000
theorem q2087 : (Jvm.Cond.sameMethod "[Ljava/lang/Object;" "java/lang/Object" "getClass" "()Ljava/lang/Class;") ∈ lw_all := lw_g (lw_at lw_m9 104 rfl) rfl
set_option maxRecDepth 100000
theorem q2088 : (Jvm.Cond.selects "[Ljava/lang/Object;" ({ cls := "java/lang/Object", name := "getClass", desc := "()Ljava/lang/Class;" } : Jvm.MethodName) ({ cls := "java/lang/Object", name := "getClass", desc := "()Ljava/lang/Class;" } : Jvm.MethodName)) ∈ lw_all := lw_g (lw_at lw_m9 105 rfl) rfl
theorem q2090 : (Jvm.Cond.castable "[Ljava/lang/Object;" "java/lang/Object") ∈ lw_tbl := lw_at lw_m9 107 rfl
theorem q2089 : (Jvm.Cond.castable "[Z" "java/lang/Object") ∈ lw_tbl := lw_at lw_m9 106 rfl
set_option maxRecDepth 100000
theorem q83 : (Jvm.Cond.initialized "java/lang/Integer$IntegerCache") ∈ lw_all := lw_g (lw_at lw_m1 20 rfl) rfl
set_option maxRecDepth 100000
theorem q1494 : (Jvm.Cond.laysStatic "java/lang/Integer$IntegerCache" "high" "I") ∈ lw_tbl := lw_at lw_m6 231 rfl
theorem q1496 : (Jvm.Cond.laysStatic "java/lang/Integer$IntegerCache" "cache" "[Ljava/lang/Integer;") ∈ lw_tbl := lw_at lw_m6 233 rfl
theorem q75 : (Jvm.Cond.initialized "java/lang/System") ∈ lw_all := lw_g (lw_at lw_m1 12 rfl) rfl
set_option maxRecDepth 100000
theorem q285 : (Jvm.Cond.static ({ cls := "java/lang/System", name := "arraycopy", desc := "(Ljava/lang/Object;ILjava/lang/Object;II)V" } : Jvm.MethodName)) ∈ lw_all := lw_g (lw_at lw_m1 222 rfl) rfl
theorem q286 : (Jvm.Cond.native ({ cls := "java/lang/System", name := "arraycopy", desc := "(Ljava/lang/Object;ILjava/lang/Object;II)V" } : Jvm.MethodName)) ∈ lw_all := lw_g (lw_at lw_m1 223 rfl) rfl
theorem q573 : (Jvm.Cond.interfaceMethod "java/util/Collection" "java/util/Collection" "toArray" "()[Ljava/lang/Object;") ∈ lw_tbl := lw_at lw_m3 30 rfl
set_option maxRecDepth 100000
theorem q574 : (Jvm.Cond.declares ({ cls := "java/util/Collection", name := "toArray", desc := "()[Ljava/lang/Object;" } : Jvm.MethodName)) ∈ lw_tbl := lw_at lw_m3 31 rfl
theorem q1770 : (Jvm.Cond.interfaceMethod "java/util/Collection" "java/lang/Object" "getClass" "()Ljava/lang/Class;") ∈ lw_tbl := lw_at lw_m8 27 rfl
theorem q1469 : (Jvm.Cond.interfaceMethod "java/util/Iterator" "java/util/Iterator" "hasNext" "()Z") ∈ lw_tbl := lw_at lw_m6 206 rfl
set_option maxRecDepth 100000
theorem q1470 : (Jvm.Cond.declares ({ cls := "java/util/Iterator", name := "hasNext", desc := "()Z" } : Jvm.MethodName)) ∈ lw_tbl := lw_at lw_m6 207 rfl
theorem q1479 : (Jvm.Cond.interfaceMethod "java/util/Iterator" "java/util/Iterator" "next" "()Ljava/lang/Object;") ∈ lw_tbl := lw_at lw_m6 216 rfl
theorem q1480 : (Jvm.Cond.declares ({ cls := "java/util/Iterator", name := "next", desc := "()Ljava/lang/Object;" } : Jvm.MethodName)) ∈ lw_tbl := lw_at lw_m6 217 rfl
theorem q193 : (Jvm.Cond.arrayClass Jvm.ClassFile.FieldType.boolean) ∈ lw_all := lw_g (lw_at lw_m1 130 rfl) rfl
set_option maxRecDepth 100000
theorem q279 : (Jvm.Cond.arrayOver (Jvm.ClassFile.FieldType.object "java/lang/Object")) ∈ lw_tbl := lw_at lw_m1 216 rfl
theorem q338 : (Jvm.Cond.arrayOver (Jvm.ClassFile.FieldType.object "Splitpointer$Client")) ∈ lw_tbl := lw_at lw_m2 35 rfl
theorem q393 : (Jvm.Cond.arrayClass Jvm.ClassFile.FieldType.int) ∈ lw_all := lw_g (lw_at lw_m2 90 rfl) rfl
theorem q741 : (Jvm.Cond.arrayClass Jvm.ClassFile.FieldType.byte) ∈ lw_all := lw_g (lw_at lw_m3 198 rfl) rfl
/-! java/util/AbstractCollection -/
set_option maxRecDepth 100000
def RJ0 : String := "java/util/AbstractCollection"
abbrev cJ0_init : ByteArray := prog_43_method_1_code
def yJ0_init : MethodName := ⟨RJ0, "<init>", "()V"⟩
theorem dJ0_init_0 : decode cJ0_init 0 = .ok (.aload_n 0, 1) := by decide +kernel
theorem dJ0_init_1 : decode cJ0_init 1 = .ok (.invokespecial 1, 3) := by decide +kernel
theorem dJ0_init_4 : decode cJ0_init 4 = .ok (.return_, 1) := by decide +kernel
theorem q67 : (Jvm.Cond.initialized "java/util/AbstractCollection") ∈ lw_all := lw_g (lw_at lw_m1 4 rfl) rfl
theorem q142 : (Jvm.Cond.instanceMethod ({ cls := "java/util/AbstractCollection", name := "<init>", desc := "()V" } : Jvm.MethodName)) ∈ lw_all := lw_g (lw_at lw_m1 79 rfl) rfl
theorem q143 : (Jvm.Cond.code ({ cls := "java/util/AbstractCollection", name := "<init>", desc := "()V" } : Jvm.MethodName) prog_43_method_1_code (1 : Nat) (Option.none : Option Jvm.ClassFile.FieldType)) ∈ lw_all := lw_g (lw_at lw_m1 80 rfl) rfl
theorem q144 : (Jvm.Cond.methodLink "java/util/AbstractCollection" (1 : Nat) ({ cls := "java/lang/Object", name := "<init>", desc := "()V" } : Jvm.MethodName)) ∈ lw_all := lw_g (lw_at lw_m1 81 rfl) rfl
/-! java/util/AbstractList -/
set_option maxRecDepth 100000
def RJ1 : String := "java/util/AbstractList"
abbrev cJ1_init : ByteArray := prog_44_method_1_code
def yJ1_init : MethodName := ⟨RJ1, "<init>", "()V"⟩
def dkwJ1_init_0 : List UInt8 := [42, 183, 0, 1, 42, 3, 181, 0, 7, 177]
abbrev dktJ1_init_0 : List UInt8 := dkwJ1_init_0 ++ []
theorem dksJ1_init_0 : cJ1_init.data.toList.drop 0 = dktJ1_init_0 := by decide +kernel
theorem dJ1_init_0 : decode cJ1_init 0 = .ok (.aload_n 0, 1) := dk_42 (dk_at dksJ1_init_0 0 rfl rfl)
theorem dJ1_init_1 : decode cJ1_init 1 = .ok (.invokespecial 1, 3) := dk_183 0 1 (dk_at dksJ1_init_0 1 rfl rfl)
theorem dJ1_init_4 : decode cJ1_init 4 = .ok (.aload_n 0, 1) := dk_42 (dk_at dksJ1_init_0 4 rfl rfl)
theorem dJ1_init_5 : decode cJ1_init 5 = .ok (.iconst 0, 1) := dk_3 (dk_at dksJ1_init_0 5 rfl rfl)
theorem dJ1_init_6 : decode cJ1_init 6 = .ok (.putfield 7, 3) := dk_181 0 7 (dk_at dksJ1_init_0 6 rfl rfl)
theorem dJ1_init_9 : decode cJ1_init 9 = .ok (.return_, 1) := dk_177 (dk_at dksJ1_init_0 9 rfl rfl)
theorem q68 : (Jvm.Cond.initialized "java/util/AbstractList") ∈ lw_all := lw_g (lw_at lw_m1 5 rfl) rfl
theorem q139 : (Jvm.Cond.instanceMethod ({ cls := "java/util/AbstractList", name := "<init>", desc := "()V" } : Jvm.MethodName)) ∈ lw_all := lw_g (lw_at lw_m1 76 rfl) rfl
theorem q140 : (Jvm.Cond.code ({ cls := "java/util/AbstractList", name := "<init>", desc := "()V" } : Jvm.MethodName) prog_44_method_1_code (1 : Nat) (Option.none : Option Jvm.ClassFile.FieldType)) ∈ lw_all := lw_g (lw_at lw_m1 77 rfl) rfl
theorem q141 : (Jvm.Cond.methodLink "java/util/AbstractList" (1 : Nat) ({ cls := "java/util/AbstractCollection", name := "<init>", desc := "()V" } : Jvm.MethodName)) ∈ lw_all := lw_g (lw_at lw_m1 78 rfl) rfl
theorem q151 : (Jvm.Cond.fieldLink "java/util/AbstractList" (7 : Nat) "java/util/AbstractList" "modCount" "I") ∈ lw_all := lw_g (lw_at lw_m1 88 rfl) rfl
theorem q160 : (Jvm.Cond.soleField "java/util/AbstractList" "modCount") ∈ lw_all := lw_g (lw_at lw_m1 97 rfl) rfl
/-! java/util/ArrayList -/
set_option maxRecDepth 100000
def RJ2 : String := "java/util/ArrayList"
def TJ2 : u_T := fun k => match k with
  | 0 => ("java/util/AbstractList", "modCount", "I", false)
  | 1 => ("java/util/ArrayList", "elementData", "[Ljava/lang/Object;", false)
  | _ => ("java/util/ArrayList", "size", "I", false)
def tyJ2 : Nat → FieldType := fun k => match k with
  | 0 => .int
  | 1 => .array (.object "java/lang/Object")
  | _ => .int
abbrev wsJ20 : List Cond := u_ws RJ2 TJ2 3
theorem nmJ2 : ∀ a, a < 3 → ∀ b, b < 3 → a ≠ b → (TJ2 a).2.1 ≠ (TJ2 b).2.1 := by decide +kernel
theorem tyJ2_ok : ∀ k, k < 3 → parseFieldDescriptor (TJ2 k).2.2.1 = some (tyJ2 k) := by decide +kernel
abbrev cJ2_init : ByteArray := prog_45_method_2_code
def yJ2_init : MethodName := ⟨RJ2, "<init>", "()V"⟩
def dkwJ2_init_0 : List UInt8 := [42, 183, 0, 1, 42, 178, 0, 39, 181, 0, 9, 177]
abbrev dktJ2_init_0 : List UInt8 := dkwJ2_init_0 ++ []
theorem dksJ2_init_0 : cJ2_init.data.toList.drop 0 = dktJ2_init_0 := by decide +kernel
theorem dJ2_init_0 : decode cJ2_init 0 = .ok (.aload_n 0, 1) := dk_42 (dk_at dksJ2_init_0 0 rfl rfl)
theorem dJ2_init_1 : decode cJ2_init 1 = .ok (.invokespecial 1, 3) := dk_183 0 1 (dk_at dksJ2_init_0 1 rfl rfl)
theorem dJ2_init_4 : decode cJ2_init 4 = .ok (.aload_n 0, 1) := dk_42 (dk_at dksJ2_init_0 4 rfl rfl)
theorem dJ2_init_5 : decode cJ2_init 5 = .ok (.getstatic 39, 3) := dk_178 0 39 (dk_at dksJ2_init_0 5 rfl rfl)
theorem dJ2_init_8 : decode cJ2_init 8 = .ok (.putfield 9, 3) := dk_181 0 9 (dk_at dksJ2_init_0 8 rfl rfl)
theorem dJ2_init_11 : decode cJ2_init 11 = .ok (.return_, 1) := dk_177 (dk_at dksJ2_init_0 11 rfl rfl)
abbrev cJ2_clear : ByteArray := prog_45_method_40_code
def yJ2_clear : MethodName := ⟨RJ2, "clear", "()V"⟩
def dkwJ2_clear_1 : List UInt8 := [181, 0, 48, 62, 29, 28, 162, 0, 13, 43, 29, 1, 83, 132, 3, 1, 167, 255, 244, 177]
abbrev dktJ2_clear_1 : List UInt8 := dkwJ2_clear_1 ++ []
def dkwJ2_clear_0 : List UInt8 := [42, 89, 180, 0, 63, 4, 96, 181, 0, 63, 42, 180, 0, 9, 76, 42, 180, 0, 48, 61, 42, 3, 90]
abbrev dktJ2_clear_0 : List UInt8 := dkwJ2_clear_0 ++ dktJ2_clear_1
theorem dksJ2_clear_0 : cJ2_clear.data.toList.drop 0 = dktJ2_clear_0 := by decide +kernel
theorem dksJ2_clear_1 : cJ2_clear.data.toList.drop 23 = dktJ2_clear_1 := dk_seg dksJ2_clear_0 23 rfl rfl
theorem dJ2_clear_0 : decode cJ2_clear 0 = .ok (.aload_n 0, 1) := dk_42 (dk_at dksJ2_clear_0 0 rfl rfl)
theorem dJ2_clear_1 : decode cJ2_clear 1 = .ok (.dup, 1) := dk_89 (dk_at dksJ2_clear_0 1 rfl rfl)
theorem dJ2_clear_2 : decode cJ2_clear 2 = .ok (.getfield 63, 3) := dk_180 0 63 (dk_at dksJ2_clear_0 2 rfl rfl)
theorem dJ2_clear_5 : decode cJ2_clear 5 = .ok (.iconst 1, 1) := dk_4 (dk_at dksJ2_clear_0 5 rfl rfl)
theorem dJ2_clear_6 : decode cJ2_clear 6 = .ok (.iadd, 1) := dk_96 (dk_at dksJ2_clear_0 6 rfl rfl)
theorem dJ2_clear_7 : decode cJ2_clear 7 = .ok (.putfield 63, 3) := dk_181 0 63 (dk_at dksJ2_clear_0 7 rfl rfl)
theorem dJ2_clear_10 : decode cJ2_clear 10 = .ok (.aload_n 0, 1) := dk_42 (dk_at dksJ2_clear_0 10 rfl rfl)
theorem dJ2_clear_11 : decode cJ2_clear 11 = .ok (.getfield 9, 3) := dk_180 0 9 (dk_at dksJ2_clear_0 11 rfl rfl)
theorem dJ2_clear_14 : decode cJ2_clear 14 = .ok (.astore_n 1, 1) := dk_76 (dk_at dksJ2_clear_0 14 rfl rfl)
theorem dJ2_clear_15 : decode cJ2_clear 15 = .ok (.aload_n 0, 1) := dk_42 (dk_at dksJ2_clear_0 15 rfl rfl)
theorem dJ2_clear_16 : decode cJ2_clear 16 = .ok (.getfield 48, 3) := dk_180 0 48 (dk_at dksJ2_clear_0 16 rfl rfl)
theorem dJ2_clear_19 : decode cJ2_clear 19 = .ok (.istore_n 2, 1) := dk_61 (dk_at dksJ2_clear_0 19 rfl rfl)
theorem dJ2_clear_20 : decode cJ2_clear 20 = .ok (.aload_n 0, 1) := dk_42 (dk_at dksJ2_clear_0 20 rfl rfl)
theorem dJ2_clear_21 : decode cJ2_clear 21 = .ok (.iconst 0, 1) := dk_3 (dk_at dksJ2_clear_0 21 rfl rfl)
theorem dJ2_clear_22 : decode cJ2_clear 22 = .ok (.dup_x1, 1) := dk_90 (dk_at dksJ2_clear_0 22 rfl rfl)
theorem dJ2_clear_23 : decode cJ2_clear 23 = .ok (.putfield 48, 3) := dk_181 0 48 (dk_at dksJ2_clear_1 0 rfl rfl)
theorem dJ2_clear_26 : decode cJ2_clear 26 = .ok (.istore_n 3, 1) := dk_62 (dk_at dksJ2_clear_1 3 rfl rfl)
theorem dJ2_clear_27 : decode cJ2_clear 27 = .ok (.iload_n 3, 1) := dk_29 (dk_at dksJ2_clear_1 4 rfl rfl)
theorem dJ2_clear_28 : decode cJ2_clear 28 = .ok (.iload_n 2, 1) := dk_28 (dk_at dksJ2_clear_1 5 rfl rfl)
theorem dJ2_clear_29 : decode cJ2_clear 29 = .ok (.if_icmp .ge 13, 3) := dk_162 0 13 (dk_at dksJ2_clear_1 6 rfl rfl)
theorem dJ2_clear_32 : decode cJ2_clear 32 = .ok (.aload_n 1, 1) := dk_43 (dk_at dksJ2_clear_1 9 rfl rfl)
theorem dJ2_clear_33 : decode cJ2_clear 33 = .ok (.iload_n 3, 1) := dk_29 (dk_at dksJ2_clear_1 10 rfl rfl)
theorem dJ2_clear_34 : decode cJ2_clear 34 = .ok (.aconst_null, 1) := dk_1 (dk_at dksJ2_clear_1 11 rfl rfl)
theorem dJ2_clear_35 : decode cJ2_clear 35 = .ok (.aastore, 1) := dk_83 (dk_at dksJ2_clear_1 12 rfl rfl)
theorem dJ2_clear_36 : decode cJ2_clear 36 = .ok (.iinc 3 1, 3) := dk_132 3 1 (dk_at dksJ2_clear_1 13 rfl rfl)
theorem dJ2_clear_39 : decode cJ2_clear 39 = .ok (.goto (-12), 3) := dk_167 255 244 (dk_at dksJ2_clear_1 16 rfl rfl)
theorem dJ2_clear_42 : decode cJ2_clear 42 = .ok (.return_, 1) := dk_177 (dk_at dksJ2_clear_1 19 rfl rfl)
abbrev cJ2_add : ByteArray := prog_45_method_25_code
def yJ2_add : MethodName := ⟨RJ2, "add", "(Ljava/lang/Object;)Z"⟩
def dkwJ2_add_1 : List UInt8 := [172]
abbrev dktJ2_add_1 : List UInt8 := dkwJ2_add_1 ++ []
def dkwJ2_add_0 : List UInt8 := [42, 89, 180, 0, 63, 4, 96, 181, 0, 63, 42, 43, 42, 180, 0, 9, 42, 180, 0, 48, 182, 0, 131, 4]
abbrev dktJ2_add_0 : List UInt8 := dkwJ2_add_0 ++ dktJ2_add_1
theorem dksJ2_add_0 : cJ2_add.data.toList.drop 0 = dktJ2_add_0 := by decide +kernel
theorem dksJ2_add_1 : cJ2_add.data.toList.drop 24 = dktJ2_add_1 := dk_seg dksJ2_add_0 24 rfl rfl
theorem dJ2_add_0 : decode cJ2_add 0 = .ok (.aload_n 0, 1) := dk_42 (dk_at dksJ2_add_0 0 rfl rfl)
theorem dJ2_add_1 : decode cJ2_add 1 = .ok (.dup, 1) := dk_89 (dk_at dksJ2_add_0 1 rfl rfl)
theorem dJ2_add_2 : decode cJ2_add 2 = .ok (.getfield 63, 3) := dk_180 0 63 (dk_at dksJ2_add_0 2 rfl rfl)
theorem dJ2_add_5 : decode cJ2_add 5 = .ok (.iconst 1, 1) := dk_4 (dk_at dksJ2_add_0 5 rfl rfl)
theorem dJ2_add_6 : decode cJ2_add 6 = .ok (.iadd, 1) := dk_96 (dk_at dksJ2_add_0 6 rfl rfl)
theorem dJ2_add_7 : decode cJ2_add 7 = .ok (.putfield 63, 3) := dk_181 0 63 (dk_at dksJ2_add_0 7 rfl rfl)
theorem dJ2_add_10 : decode cJ2_add 10 = .ok (.aload_n 0, 1) := dk_42 (dk_at dksJ2_add_0 10 rfl rfl)
theorem dJ2_add_11 : decode cJ2_add 11 = .ok (.aload_n 1, 1) := dk_43 (dk_at dksJ2_add_0 11 rfl rfl)
theorem dJ2_add_12 : decode cJ2_add 12 = .ok (.aload_n 0, 1) := dk_42 (dk_at dksJ2_add_0 12 rfl rfl)
theorem dJ2_add_13 : decode cJ2_add 13 = .ok (.getfield 9, 3) := dk_180 0 9 (dk_at dksJ2_add_0 13 rfl rfl)
theorem dJ2_add_16 : decode cJ2_add 16 = .ok (.aload_n 0, 1) := dk_42 (dk_at dksJ2_add_0 16 rfl rfl)
theorem dJ2_add_17 : decode cJ2_add 17 = .ok (.getfield 48, 3) := dk_180 0 48 (dk_at dksJ2_add_0 17 rfl rfl)
theorem dJ2_add_20 : decode cJ2_add 20 = .ok (.invokevirtual 131, 3) := dk_182 0 131 (dk_at dksJ2_add_0 20 rfl rfl)
theorem dJ2_add_23 : decode cJ2_add 23 = .ok (.iconst 1, 1) := dk_4 (dk_at dksJ2_add_0 23 rfl rfl)
theorem dJ2_add_24 : decode cJ2_add 24 = .ok (.ireturn, 1) := dk_172 (dk_at dksJ2_add_1 0 rfl rfl)
abbrev cJ2_add_2 : ByteArray := prog_45_method_24_code
def yJ2_add_2 : MethodName := ⟨RJ2, "add", "(Ljava/lang/Object;[Ljava/lang/Object;I)V"⟩
def dkwJ2_add_2_0 : List UInt8 := [29, 44, 190, 160, 0, 8, 42, 182, 0, 129, 77, 44, 29, 43, 83, 42, 29, 4, 96, 181, 0, 48, 177]
abbrev dktJ2_add_2_0 : List UInt8 := dkwJ2_add_2_0 ++ []
theorem dksJ2_add_2_0 : cJ2_add_2.data.toList.drop 0 = dktJ2_add_2_0 := by decide +kernel
theorem dJ2_add_2_0 : decode cJ2_add_2 0 = .ok (.iload_n 3, 1) := dk_29 (dk_at dksJ2_add_2_0 0 rfl rfl)
theorem dJ2_add_2_1 : decode cJ2_add_2 1 = .ok (.aload_n 2, 1) := dk_44 (dk_at dksJ2_add_2_0 1 rfl rfl)
theorem dJ2_add_2_2 : decode cJ2_add_2 2 = .ok (.arraylength, 1) := dk_190 (dk_at dksJ2_add_2_0 2 rfl rfl)
theorem dJ2_add_2_3 : decode cJ2_add_2 3 = .ok (.if_icmp .ne 8, 3) := dk_160 0 8 (dk_at dksJ2_add_2_0 3 rfl rfl)
theorem dJ2_add_2_6 : decode cJ2_add_2 6 = .ok (.aload_n 0, 1) := dk_42 (dk_at dksJ2_add_2_0 6 rfl rfl)
theorem dJ2_add_2_7 : decode cJ2_add_2 7 = .ok (.invokevirtual 129, 3) := dk_182 0 129 (dk_at dksJ2_add_2_0 7 rfl rfl)
theorem dJ2_add_2_10 : decode cJ2_add_2 10 = .ok (.astore_n 2, 1) := dk_77 (dk_at dksJ2_add_2_0 10 rfl rfl)
theorem dJ2_add_2_11 : decode cJ2_add_2 11 = .ok (.aload_n 2, 1) := dk_44 (dk_at dksJ2_add_2_0 11 rfl rfl)
theorem dJ2_add_2_12 : decode cJ2_add_2 12 = .ok (.iload_n 3, 1) := dk_29 (dk_at dksJ2_add_2_0 12 rfl rfl)
theorem dJ2_add_2_13 : decode cJ2_add_2 13 = .ok (.aload_n 1, 1) := dk_43 (dk_at dksJ2_add_2_0 13 rfl rfl)
theorem dJ2_add_2_14 : decode cJ2_add_2 14 = .ok (.aastore, 1) := dk_83 (dk_at dksJ2_add_2_0 14 rfl rfl)
theorem dJ2_add_2_15 : decode cJ2_add_2 15 = .ok (.aload_n 0, 1) := dk_42 (dk_at dksJ2_add_2_0 15 rfl rfl)
theorem dJ2_add_2_16 : decode cJ2_add_2 16 = .ok (.iload_n 3, 1) := dk_29 (dk_at dksJ2_add_2_0 16 rfl rfl)
theorem dJ2_add_2_17 : decode cJ2_add_2 17 = .ok (.iconst 1, 1) := dk_4 (dk_at dksJ2_add_2_0 17 rfl rfl)
theorem dJ2_add_2_18 : decode cJ2_add_2 18 = .ok (.iadd, 1) := dk_96 (dk_at dksJ2_add_2_0 18 rfl rfl)
theorem dJ2_add_2_19 : decode cJ2_add_2 19 = .ok (.putfield 48, 3) := dk_181 0 48 (dk_at dksJ2_add_2_0 19 rfl rfl)
theorem dJ2_add_2_22 : decode cJ2_add_2 22 = .ok (.return_, 1) := dk_177 (dk_at dksJ2_add_2_0 22 rfl rfl)
abbrev cJ2_grow : ByteArray := prog_45_method_7_code
def yJ2_grow : MethodName := ⟨RJ2, "grow", "()[Ljava/lang/Object;"⟩
def dkwJ2_grow_0 : List UInt8 := [42, 42, 180, 0, 48, 4, 96, 182, 0, 69, 176]
abbrev dktJ2_grow_0 : List UInt8 := dkwJ2_grow_0 ++ []
theorem dksJ2_grow_0 : cJ2_grow.data.toList.drop 0 = dktJ2_grow_0 := by decide +kernel
theorem dJ2_grow_0 : decode cJ2_grow 0 = .ok (.aload_n 0, 1) := dk_42 (dk_at dksJ2_grow_0 0 rfl rfl)
theorem dJ2_grow_1 : decode cJ2_grow 1 = .ok (.aload_n 0, 1) := dk_42 (dk_at dksJ2_grow_0 1 rfl rfl)
theorem dJ2_grow_2 : decode cJ2_grow 2 = .ok (.getfield 48, 3) := dk_180 0 48 (dk_at dksJ2_grow_0 2 rfl rfl)
theorem dJ2_grow_5 : decode cJ2_grow 5 = .ok (.iconst 1, 1) := dk_4 (dk_at dksJ2_grow_0 5 rfl rfl)
theorem dJ2_grow_6 : decode cJ2_grow 6 = .ok (.iadd, 1) := dk_96 (dk_at dksJ2_grow_0 6 rfl rfl)
theorem dJ2_grow_7 : decode cJ2_grow 7 = .ok (.invokevirtual 69, 3) := dk_182 0 69 (dk_at dksJ2_grow_0 7 rfl rfl)
theorem dJ2_grow_10 : decode cJ2_grow 10 = .ok (.areturn, 1) := dk_176 (dk_at dksJ2_grow_0 10 rfl rfl)
abbrev cJ2_grow_2 : ByteArray := prog_45_method_6_code
def yJ2_grow_2 : MethodName := ⟨RJ2, "grow", "(I)[Ljava/lang/Object;"⟩
def dkwJ2_grow_2_2 : List UInt8 := [27, 184, 0, 79, 189, 0, 7, 90, 181, 0, 9, 176]
abbrev dktJ2_grow_2_2 : List UInt8 := dkwJ2_grow_2_2 ++ []
def dkwJ2_grow_2_1 : List UInt8 := [28, 4, 122, 184, 0, 73, 62, 42, 42, 180, 0, 9, 29, 184, 0, 66, 90, 181, 0, 9, 176, 42, 16, 10]
abbrev dktJ2_grow_2_1 : List UInt8 := dkwJ2_grow_2_1 ++ dktJ2_grow_2_2
def dkwJ2_grow_2_0 : List UInt8 := [42, 180, 0, 9, 190, 61, 28, 157, 0, 13, 42, 180, 0, 9, 178, 0, 39, 165, 0, 28, 28, 27, 28, 100]
abbrev dktJ2_grow_2_0 : List UInt8 := dkwJ2_grow_2_0 ++ dktJ2_grow_2_1
theorem dksJ2_grow_2_0 : cJ2_grow_2.data.toList.drop 0 = dktJ2_grow_2_0 := by decide +kernel
theorem dksJ2_grow_2_1 : cJ2_grow_2.data.toList.drop 24 = dktJ2_grow_2_1 := dk_seg dksJ2_grow_2_0 24 rfl rfl
theorem dksJ2_grow_2_2 : cJ2_grow_2.data.toList.drop 48 = dktJ2_grow_2_2 := dk_seg dksJ2_grow_2_1 24 rfl rfl
theorem dJ2_grow_2_0 : decode cJ2_grow_2 0 = .ok (.aload_n 0, 1) := dk_42 (dk_at dksJ2_grow_2_0 0 rfl rfl)
theorem dJ2_grow_2_1 : decode cJ2_grow_2 1 = .ok (.getfield 9, 3) := dk_180 0 9 (dk_at dksJ2_grow_2_0 1 rfl rfl)
theorem dJ2_grow_2_4 : decode cJ2_grow_2 4 = .ok (.arraylength, 1) := dk_190 (dk_at dksJ2_grow_2_0 4 rfl rfl)
theorem dJ2_grow_2_5 : decode cJ2_grow_2 5 = .ok (.istore_n 2, 1) := dk_61 (dk_at dksJ2_grow_2_0 5 rfl rfl)
theorem dJ2_grow_2_6 : decode cJ2_grow_2 6 = .ok (.iload_n 2, 1) := dk_28 (dk_at dksJ2_grow_2_0 6 rfl rfl)
theorem dJ2_grow_2_7 : decode cJ2_grow_2 7 = .ok (.ifCond .gt 13, 3) := dk_157 0 13 (dk_at dksJ2_grow_2_0 7 rfl rfl)
theorem dJ2_grow_2_10 : decode cJ2_grow_2 10 = .ok (.aload_n 0, 1) := dk_42 (dk_at dksJ2_grow_2_0 10 rfl rfl)
theorem dJ2_grow_2_11 : decode cJ2_grow_2 11 = .ok (.getfield 9, 3) := dk_180 0 9 (dk_at dksJ2_grow_2_0 11 rfl rfl)
theorem dJ2_grow_2_14 : decode cJ2_grow_2 14 = .ok (.getstatic 39, 3) := dk_178 0 39 (dk_at dksJ2_grow_2_0 14 rfl rfl)
theorem dJ2_grow_2_17 : decode cJ2_grow_2 17 = .ok (.if_acmp .eq 28, 3) := dk_165 0 28 (dk_at dksJ2_grow_2_0 17 rfl rfl)
theorem dJ2_grow_2_20 : decode cJ2_grow_2 20 = .ok (.iload_n 2, 1) := dk_28 (dk_at dksJ2_grow_2_0 20 rfl rfl)
theorem dJ2_grow_2_21 : decode cJ2_grow_2 21 = .ok (.iload_n 1, 1) := dk_27 (dk_at dksJ2_grow_2_0 21 rfl rfl)
theorem dJ2_grow_2_22 : decode cJ2_grow_2 22 = .ok (.iload_n 2, 1) := dk_28 (dk_at dksJ2_grow_2_0 22 rfl rfl)
theorem dJ2_grow_2_23 : decode cJ2_grow_2 23 = .ok (.isub, 1) := dk_100 (dk_at dksJ2_grow_2_0 23 rfl rfl)
theorem dJ2_grow_2_24 : decode cJ2_grow_2 24 = .ok (.iload_n 2, 1) := dk_28 (dk_at dksJ2_grow_2_1 0 rfl rfl)
theorem dJ2_grow_2_25 : decode cJ2_grow_2 25 = .ok (.iconst 1, 1) := dk_4 (dk_at dksJ2_grow_2_1 1 rfl rfl)
theorem dJ2_grow_2_26 : decode cJ2_grow_2 26 = .ok (.ishr, 1) := dk_122 (dk_at dksJ2_grow_2_1 2 rfl rfl)
theorem dJ2_grow_2_27 : decode cJ2_grow_2 27 = .ok (.invokestatic 73, 3) := dk_184 0 73 (dk_at dksJ2_grow_2_1 3 rfl rfl)
theorem dJ2_grow_2_30 : decode cJ2_grow_2 30 = .ok (.istore_n 3, 1) := dk_62 (dk_at dksJ2_grow_2_1 6 rfl rfl)
theorem dJ2_grow_2_31 : decode cJ2_grow_2 31 = .ok (.aload_n 0, 1) := dk_42 (dk_at dksJ2_grow_2_1 7 rfl rfl)
theorem dJ2_grow_2_32 : decode cJ2_grow_2 32 = .ok (.aload_n 0, 1) := dk_42 (dk_at dksJ2_grow_2_1 8 rfl rfl)
theorem dJ2_grow_2_33 : decode cJ2_grow_2 33 = .ok (.getfield 9, 3) := dk_180 0 9 (dk_at dksJ2_grow_2_1 9 rfl rfl)
theorem dJ2_grow_2_36 : decode cJ2_grow_2 36 = .ok (.iload_n 3, 1) := dk_29 (dk_at dksJ2_grow_2_1 12 rfl rfl)
theorem dJ2_grow_2_37 : decode cJ2_grow_2 37 = .ok (.invokestatic 66, 3) := dk_184 0 66 (dk_at dksJ2_grow_2_1 13 rfl rfl)
theorem dJ2_grow_2_40 : decode cJ2_grow_2 40 = .ok (.dup_x1, 1) := dk_90 (dk_at dksJ2_grow_2_1 16 rfl rfl)
theorem dJ2_grow_2_41 : decode cJ2_grow_2 41 = .ok (.putfield 9, 3) := dk_181 0 9 (dk_at dksJ2_grow_2_1 17 rfl rfl)
theorem dJ2_grow_2_44 : decode cJ2_grow_2 44 = .ok (.areturn, 1) := dk_176 (dk_at dksJ2_grow_2_1 20 rfl rfl)
theorem dJ2_grow_2_45 : decode cJ2_grow_2 45 = .ok (.aload_n 0, 1) := dk_42 (dk_at dksJ2_grow_2_1 21 rfl rfl)
theorem dJ2_grow_2_46 : decode cJ2_grow_2 46 = .ok (.bipush 10, 2) := dk_16 10 (dk_at dksJ2_grow_2_1 22 rfl rfl)
theorem dJ2_grow_2_48 : decode cJ2_grow_2 48 = .ok (.iload_n 1, 1) := dk_27 (dk_at dksJ2_grow_2_2 0 rfl rfl)
theorem dJ2_grow_2_49 : decode cJ2_grow_2 49 = .ok (.invokestatic 79, 3) := dk_184 0 79 (dk_at dksJ2_grow_2_2 1 rfl rfl)
theorem dJ2_grow_2_52 : decode cJ2_grow_2 52 = .ok (.anewarray 7, 3) := dk_189 0 7 (dk_at dksJ2_grow_2_2 4 rfl rfl)
theorem dJ2_grow_2_55 : decode cJ2_grow_2 55 = .ok (.dup_x1, 1) := dk_90 (dk_at dksJ2_grow_2_2 7 rfl rfl)
theorem dJ2_grow_2_56 : decode cJ2_grow_2 56 = .ok (.putfield 9, 3) := dk_181 0 9 (dk_at dksJ2_grow_2_2 8 rfl rfl)
theorem dJ2_grow_2_59 : decode cJ2_grow_2 59 = .ok (.areturn, 1) := dk_176 (dk_at dksJ2_grow_2_2 11 rfl rfl)
abbrev cJ2_size : ByteArray := prog_45_method_8_code
def yJ2_size : MethodName := ⟨RJ2, "size", "()I"⟩
theorem dJ2_size_0 : decode cJ2_size 0 = .ok (.aload_n 0, 1) := by decide +kernel
theorem dJ2_size_1 : decode cJ2_size 1 = .ok (.getfield 48, 3) := by decide +kernel
theorem dJ2_size_4 : decode cJ2_size 4 = .ok (.ireturn, 1) := by decide +kernel
abbrev cJ2_get : ByteArray := prog_45_method_20_code
def yJ2_get : MethodName := ⟨RJ2, "get", "(I)Ljava/lang/Object;"⟩
def dkwJ2_get_0 : List UInt8 := [27, 42, 180, 0, 48, 184, 0, 118, 87, 42, 27, 182, 0, 123, 176]
abbrev dktJ2_get_0 : List UInt8 := dkwJ2_get_0 ++ []
theorem dksJ2_get_0 : cJ2_get.data.toList.drop 0 = dktJ2_get_0 := by decide +kernel
theorem dJ2_get_0 : decode cJ2_get 0 = .ok (.iload_n 1, 1) := dk_27 (dk_at dksJ2_get_0 0 rfl rfl)
theorem dJ2_get_1 : decode cJ2_get 1 = .ok (.aload_n 0, 1) := dk_42 (dk_at dksJ2_get_0 1 rfl rfl)
theorem dJ2_get_2 : decode cJ2_get 2 = .ok (.getfield 48, 3) := dk_180 0 48 (dk_at dksJ2_get_0 2 rfl rfl)
theorem dJ2_get_5 : decode cJ2_get 5 = .ok (.invokestatic 118, 3) := dk_184 0 118 (dk_at dksJ2_get_0 5 rfl rfl)
theorem dJ2_get_8 : decode cJ2_get 8 = .ok (.pop, 1) := dk_87 (dk_at dksJ2_get_0 8 rfl rfl)
theorem dJ2_get_9 : decode cJ2_get 9 = .ok (.aload_n 0, 1) := dk_42 (dk_at dksJ2_get_0 9 rfl rfl)
theorem dJ2_get_10 : decode cJ2_get 10 = .ok (.iload_n 1, 1) := dk_27 (dk_at dksJ2_get_0 10 rfl rfl)
theorem dJ2_get_11 : decode cJ2_get 11 = .ok (.invokevirtual 123, 3) := dk_182 0 123 (dk_at dksJ2_get_0 11 rfl rfl)
theorem dJ2_get_14 : decode cJ2_get 14 = .ok (.areturn, 1) := dk_176 (dk_at dksJ2_get_0 14 rfl rfl)
abbrev cJ2_elementData : ByteArray := prog_45_method_18_code
def yJ2_elementData : MethodName := ⟨RJ2, "elementData", "(I)Ljava/lang/Object;"⟩
def dkwJ2_elementData_0 : List UInt8 := [42, 180, 0, 9, 27, 50, 176]
abbrev dktJ2_elementData_0 : List UInt8 := dkwJ2_elementData_0 ++ []
theorem dksJ2_elementData_0 : cJ2_elementData.data.toList.drop 0 = dktJ2_elementData_0 := by decide +kernel
theorem dJ2_elementData_0 : decode cJ2_elementData 0 = .ok (.aload_n 0, 1) := dk_42 (dk_at dksJ2_elementData_0 0 rfl rfl)
theorem dJ2_elementData_1 : decode cJ2_elementData 1 = .ok (.getfield 9, 3) := dk_180 0 9 (dk_at dksJ2_elementData_0 1 rfl rfl)
theorem dJ2_elementData_4 : decode cJ2_elementData 4 = .ok (.iload_n 1, 1) := dk_27 (dk_at dksJ2_elementData_0 4 rfl rfl)
theorem dJ2_elementData_5 : decode cJ2_elementData 5 = .ok (.aaload, 1) := dk_50 (dk_at dksJ2_elementData_0 5 rfl rfl)
theorem dJ2_elementData_6 : decode cJ2_elementData 6 = .ok (.areturn, 1) := dk_176 (dk_at dksJ2_elementData_0 6 rfl rfl)
abbrev cJ2_set : ByteArray := prog_45_method_23_code
def yJ2_set : MethodName := ⟨RJ2, "set", "(ILjava/lang/Object;)Ljava/lang/Object;"⟩
def dkwJ2_set_0 : List UInt8 := [27, 42, 180, 0, 48, 184, 0, 118, 87, 42, 27, 182, 0, 123, 78, 42, 180, 0, 9, 27, 44, 83, 45, 176]
abbrev dktJ2_set_0 : List UInt8 := dkwJ2_set_0 ++ []
theorem dksJ2_set_0 : cJ2_set.data.toList.drop 0 = dktJ2_set_0 := by decide +kernel
theorem dJ2_set_0 : decode cJ2_set 0 = .ok (.iload_n 1, 1) := dk_27 (dk_at dksJ2_set_0 0 rfl rfl)
theorem dJ2_set_1 : decode cJ2_set 1 = .ok (.aload_n 0, 1) := dk_42 (dk_at dksJ2_set_0 1 rfl rfl)
theorem dJ2_set_2 : decode cJ2_set 2 = .ok (.getfield 48, 3) := dk_180 0 48 (dk_at dksJ2_set_0 2 rfl rfl)
theorem dJ2_set_5 : decode cJ2_set 5 = .ok (.invokestatic 118, 3) := dk_184 0 118 (dk_at dksJ2_set_0 5 rfl rfl)
theorem dJ2_set_8 : decode cJ2_set 8 = .ok (.pop, 1) := dk_87 (dk_at dksJ2_set_0 8 rfl rfl)
theorem dJ2_set_9 : decode cJ2_set 9 = .ok (.aload_n 0, 1) := dk_42 (dk_at dksJ2_set_0 9 rfl rfl)
theorem dJ2_set_10 : decode cJ2_set 10 = .ok (.iload_n 1, 1) := dk_27 (dk_at dksJ2_set_0 10 rfl rfl)
theorem dJ2_set_11 : decode cJ2_set 11 = .ok (.invokevirtual 123, 3) := dk_182 0 123 (dk_at dksJ2_set_0 11 rfl rfl)
theorem dJ2_set_14 : decode cJ2_set 14 = .ok (.astore_n 3, 1) := dk_78 (dk_at dksJ2_set_0 14 rfl rfl)
theorem dJ2_set_15 : decode cJ2_set 15 = .ok (.aload_n 0, 1) := dk_42 (dk_at dksJ2_set_0 15 rfl rfl)
theorem dJ2_set_16 : decode cJ2_set 16 = .ok (.getfield 9, 3) := dk_180 0 9 (dk_at dksJ2_set_0 16 rfl rfl)
theorem dJ2_set_19 : decode cJ2_set 19 = .ok (.iload_n 1, 1) := dk_27 (dk_at dksJ2_set_0 19 rfl rfl)
theorem dJ2_set_20 : decode cJ2_set 20 = .ok (.aload_n 2, 1) := dk_44 (dk_at dksJ2_set_0 20 rfl rfl)
theorem dJ2_set_21 : decode cJ2_set 21 = .ok (.aastore, 1) := dk_83 (dk_at dksJ2_set_0 21 rfl rfl)
theorem dJ2_set_22 : decode cJ2_set 22 = .ok (.aload_n 3, 1) := dk_45 (dk_at dksJ2_set_0 22 rfl rfl)
theorem dJ2_set_23 : decode cJ2_set 23 = .ok (.areturn, 1) := dk_176 (dk_at dksJ2_set_0 23 rfl rfl)
abbrev cJ2_remove : ByteArray := prog_45_method_29_code
def yJ2_remove : MethodName := ⟨RJ2, "remove", "(I)Ljava/lang/Object;"⟩
def dkwJ2_remove_1 : List UInt8 := [45, 176]
abbrev dktJ2_remove_1 : List UInt8 := dkwJ2_remove_1 ++ []
def dkwJ2_remove_0 : List UInt8 := [27, 42, 180, 0, 48, 184, 0, 118, 87, 42, 180, 0, 9, 77, 44, 27, 50, 78, 42, 44, 27, 182, 0, 144]
abbrev dktJ2_remove_0 : List UInt8 := dkwJ2_remove_0 ++ dktJ2_remove_1
theorem dksJ2_remove_0 : cJ2_remove.data.toList.drop 0 = dktJ2_remove_0 := by decide +kernel
theorem dksJ2_remove_1 : cJ2_remove.data.toList.drop 24 = dktJ2_remove_1 := dk_seg dksJ2_remove_0 24 rfl rfl
theorem dJ2_remove_0 : decode cJ2_remove 0 = .ok (.iload_n 1, 1) := dk_27 (dk_at dksJ2_remove_0 0 rfl rfl)
theorem dJ2_remove_1 : decode cJ2_remove 1 = .ok (.aload_n 0, 1) := dk_42 (dk_at dksJ2_remove_0 1 rfl rfl)
theorem dJ2_remove_2 : decode cJ2_remove 2 = .ok (.getfield 48, 3) := dk_180 0 48 (dk_at dksJ2_remove_0 2 rfl rfl)
theorem dJ2_remove_5 : decode cJ2_remove 5 = .ok (.invokestatic 118, 3) := dk_184 0 118 (dk_at dksJ2_remove_0 5 rfl rfl)
theorem dJ2_remove_8 : decode cJ2_remove 8 = .ok (.pop, 1) := dk_87 (dk_at dksJ2_remove_0 8 rfl rfl)
theorem dJ2_remove_9 : decode cJ2_remove 9 = .ok (.aload_n 0, 1) := dk_42 (dk_at dksJ2_remove_0 9 rfl rfl)
theorem dJ2_remove_10 : decode cJ2_remove 10 = .ok (.getfield 9, 3) := dk_180 0 9 (dk_at dksJ2_remove_0 10 rfl rfl)
theorem dJ2_remove_13 : decode cJ2_remove 13 = .ok (.astore_n 2, 1) := dk_77 (dk_at dksJ2_remove_0 13 rfl rfl)
theorem dJ2_remove_14 : decode cJ2_remove 14 = .ok (.aload_n 2, 1) := dk_44 (dk_at dksJ2_remove_0 14 rfl rfl)
theorem dJ2_remove_15 : decode cJ2_remove 15 = .ok (.iload_n 1, 1) := dk_27 (dk_at dksJ2_remove_0 15 rfl rfl)
theorem dJ2_remove_16 : decode cJ2_remove 16 = .ok (.aaload, 1) := dk_50 (dk_at dksJ2_remove_0 16 rfl rfl)
theorem dJ2_remove_17 : decode cJ2_remove 17 = .ok (.astore_n 3, 1) := dk_78 (dk_at dksJ2_remove_0 17 rfl rfl)
theorem dJ2_remove_18 : decode cJ2_remove 18 = .ok (.aload_n 0, 1) := dk_42 (dk_at dksJ2_remove_0 18 rfl rfl)
theorem dJ2_remove_19 : decode cJ2_remove 19 = .ok (.aload_n 2, 1) := dk_44 (dk_at dksJ2_remove_0 19 rfl rfl)
theorem dJ2_remove_20 : decode cJ2_remove 20 = .ok (.iload_n 1, 1) := dk_27 (dk_at dksJ2_remove_0 20 rfl rfl)
theorem dJ2_remove_21 : decode cJ2_remove 21 = .ok (.invokevirtual 144, 3) := dk_182 0 144 (dk_at dksJ2_remove_0 21 rfl rfl)
theorem dJ2_remove_24 : decode cJ2_remove 24 = .ok (.aload_n 3, 1) := dk_45 (dk_at dksJ2_remove_1 0 rfl rfl)
theorem dJ2_remove_25 : decode cJ2_remove 25 = .ok (.areturn, 1) := dk_176 (dk_at dksJ2_remove_1 1 rfl rfl)
abbrev cJ2_fastRemove : ByteArray := prog_45_method_39_code
def yJ2_fastRemove : MethodName := ⟨RJ2, "fastRemove", "([Ljava/lang/Object;I)V"⟩
def dkwJ2_fastRemove_1 : List UInt8 := [4, 96, 43, 28, 29, 28, 100, 184, 0, 112, 43, 42, 29, 90, 181, 0, 48, 1, 83, 177]
abbrev dktJ2_fastRemove_1 : List UInt8 := dkwJ2_fastRemove_1 ++ []
def dkwJ2_fastRemove_0 : List UInt8 := [42, 89, 180, 0, 63, 4, 96, 181, 0, 63, 42, 180, 0, 48, 4, 100, 89, 62, 28, 164, 0, 15, 43, 28]
abbrev dktJ2_fastRemove_0 : List UInt8 := dkwJ2_fastRemove_0 ++ dktJ2_fastRemove_1
theorem dksJ2_fastRemove_0 : cJ2_fastRemove.data.toList.drop 0 = dktJ2_fastRemove_0 := by decide +kernel
theorem dksJ2_fastRemove_1 : cJ2_fastRemove.data.toList.drop 24 = dktJ2_fastRemove_1 := dk_seg dksJ2_fastRemove_0 24 rfl rfl
theorem dJ2_fastRemove_0 : decode cJ2_fastRemove 0 = .ok (.aload_n 0, 1) := dk_42 (dk_at dksJ2_fastRemove_0 0 rfl rfl)
theorem dJ2_fastRemove_1 : decode cJ2_fastRemove 1 = .ok (.dup, 1) := dk_89 (dk_at dksJ2_fastRemove_0 1 rfl rfl)
theorem dJ2_fastRemove_2 : decode cJ2_fastRemove 2 = .ok (.getfield 63, 3) := dk_180 0 63 (dk_at dksJ2_fastRemove_0 2 rfl rfl)
theorem dJ2_fastRemove_5 : decode cJ2_fastRemove 5 = .ok (.iconst 1, 1) := dk_4 (dk_at dksJ2_fastRemove_0 5 rfl rfl)
theorem dJ2_fastRemove_6 : decode cJ2_fastRemove 6 = .ok (.iadd, 1) := dk_96 (dk_at dksJ2_fastRemove_0 6 rfl rfl)
theorem dJ2_fastRemove_7 : decode cJ2_fastRemove 7 = .ok (.putfield 63, 3) := dk_181 0 63 (dk_at dksJ2_fastRemove_0 7 rfl rfl)
theorem dJ2_fastRemove_10 : decode cJ2_fastRemove 10 = .ok (.aload_n 0, 1) := dk_42 (dk_at dksJ2_fastRemove_0 10 rfl rfl)
theorem dJ2_fastRemove_11 : decode cJ2_fastRemove 11 = .ok (.getfield 48, 3) := dk_180 0 48 (dk_at dksJ2_fastRemove_0 11 rfl rfl)
theorem dJ2_fastRemove_14 : decode cJ2_fastRemove 14 = .ok (.iconst 1, 1) := dk_4 (dk_at dksJ2_fastRemove_0 14 rfl rfl)
theorem dJ2_fastRemove_15 : decode cJ2_fastRemove 15 = .ok (.isub, 1) := dk_100 (dk_at dksJ2_fastRemove_0 15 rfl rfl)
theorem dJ2_fastRemove_16 : decode cJ2_fastRemove 16 = .ok (.dup, 1) := dk_89 (dk_at dksJ2_fastRemove_0 16 rfl rfl)
theorem dJ2_fastRemove_17 : decode cJ2_fastRemove 17 = .ok (.istore_n 3, 1) := dk_62 (dk_at dksJ2_fastRemove_0 17 rfl rfl)
theorem dJ2_fastRemove_18 : decode cJ2_fastRemove 18 = .ok (.iload_n 2, 1) := dk_28 (dk_at dksJ2_fastRemove_0 18 rfl rfl)
theorem dJ2_fastRemove_19 : decode cJ2_fastRemove 19 = .ok (.if_icmp .le 15, 3) := dk_164 0 15 (dk_at dksJ2_fastRemove_0 19 rfl rfl)
theorem dJ2_fastRemove_22 : decode cJ2_fastRemove 22 = .ok (.aload_n 1, 1) := dk_43 (dk_at dksJ2_fastRemove_0 22 rfl rfl)
theorem dJ2_fastRemove_23 : decode cJ2_fastRemove 23 = .ok (.iload_n 2, 1) := dk_28 (dk_at dksJ2_fastRemove_0 23 rfl rfl)
theorem dJ2_fastRemove_24 : decode cJ2_fastRemove 24 = .ok (.iconst 1, 1) := dk_4 (dk_at dksJ2_fastRemove_1 0 rfl rfl)
theorem dJ2_fastRemove_25 : decode cJ2_fastRemove 25 = .ok (.iadd, 1) := dk_96 (dk_at dksJ2_fastRemove_1 1 rfl rfl)
theorem dJ2_fastRemove_26 : decode cJ2_fastRemove 26 = .ok (.aload_n 1, 1) := dk_43 (dk_at dksJ2_fastRemove_1 2 rfl rfl)
theorem dJ2_fastRemove_27 : decode cJ2_fastRemove 27 = .ok (.iload_n 2, 1) := dk_28 (dk_at dksJ2_fastRemove_1 3 rfl rfl)
theorem dJ2_fastRemove_28 : decode cJ2_fastRemove 28 = .ok (.iload_n 3, 1) := dk_29 (dk_at dksJ2_fastRemove_1 4 rfl rfl)
theorem dJ2_fastRemove_29 : decode cJ2_fastRemove 29 = .ok (.iload_n 2, 1) := dk_28 (dk_at dksJ2_fastRemove_1 5 rfl rfl)
theorem dJ2_fastRemove_30 : decode cJ2_fastRemove 30 = .ok (.isub, 1) := dk_100 (dk_at dksJ2_fastRemove_1 6 rfl rfl)
theorem dJ2_fastRemove_31 : decode cJ2_fastRemove 31 = .ok (.invokestatic 112, 3) := dk_184 0 112 (dk_at dksJ2_fastRemove_1 7 rfl rfl)
theorem dJ2_fastRemove_34 : decode cJ2_fastRemove 34 = .ok (.aload_n 1, 1) := dk_43 (dk_at dksJ2_fastRemove_1 10 rfl rfl)
theorem dJ2_fastRemove_35 : decode cJ2_fastRemove 35 = .ok (.aload_n 0, 1) := dk_42 (dk_at dksJ2_fastRemove_1 11 rfl rfl)
theorem dJ2_fastRemove_36 : decode cJ2_fastRemove 36 = .ok (.iload_n 3, 1) := dk_29 (dk_at dksJ2_fastRemove_1 12 rfl rfl)
theorem dJ2_fastRemove_37 : decode cJ2_fastRemove 37 = .ok (.dup_x1, 1) := dk_90 (dk_at dksJ2_fastRemove_1 13 rfl rfl)
theorem dJ2_fastRemove_38 : decode cJ2_fastRemove 38 = .ok (.putfield 48, 3) := dk_181 0 48 (dk_at dksJ2_fastRemove_1 14 rfl rfl)
theorem dJ2_fastRemove_41 : decode cJ2_fastRemove 41 = .ok (.aconst_null, 1) := dk_1 (dk_at dksJ2_fastRemove_1 17 rfl rfl)
theorem dJ2_fastRemove_42 : decode cJ2_fastRemove 42 = .ok (.aastore, 1) := dk_83 (dk_at dksJ2_fastRemove_1 18 rfl rfl)
theorem dJ2_fastRemove_43 : decode cJ2_fastRemove 43 = .ok (.return_, 1) := dk_177 (dk_at dksJ2_fastRemove_1 19 rfl rfl)
abbrev cJ2_isEmpty : ByteArray := prog_45_method_9_code
def yJ2_isEmpty : MethodName := ⟨RJ2, "isEmpty", "()Z"⟩
def dkwJ2_isEmpty_0 : List UInt8 := [42, 180, 0, 48, 154, 0, 7, 4, 167, 0, 4, 3, 172]
abbrev dktJ2_isEmpty_0 : List UInt8 := dkwJ2_isEmpty_0 ++ []
theorem dksJ2_isEmpty_0 : cJ2_isEmpty.data.toList.drop 0 = dktJ2_isEmpty_0 := by decide +kernel
theorem dJ2_isEmpty_0 : decode cJ2_isEmpty 0 = .ok (.aload_n 0, 1) := dk_42 (dk_at dksJ2_isEmpty_0 0 rfl rfl)
theorem dJ2_isEmpty_1 : decode cJ2_isEmpty 1 = .ok (.getfield 48, 3) := dk_180 0 48 (dk_at dksJ2_isEmpty_0 1 rfl rfl)
theorem dJ2_isEmpty_4 : decode cJ2_isEmpty 4 = .ok (.ifCond .ne 7, 3) := dk_154 0 7 (dk_at dksJ2_isEmpty_0 4 rfl rfl)
theorem dJ2_isEmpty_7 : decode cJ2_isEmpty 7 = .ok (.iconst 1, 1) := dk_4 (dk_at dksJ2_isEmpty_0 7 rfl rfl)
theorem dJ2_isEmpty_8 : decode cJ2_isEmpty 8 = .ok (.goto 4, 3) := dk_167 0 4 (dk_at dksJ2_isEmpty_0 8 rfl rfl)
theorem dJ2_isEmpty_11 : decode cJ2_isEmpty 11 = .ok (.iconst 0, 1) := dk_3 (dk_at dksJ2_isEmpty_0 11 rfl rfl)
theorem dJ2_isEmpty_12 : decode cJ2_isEmpty 12 = .ok (.ireturn, 1) := dk_172 (dk_at dksJ2_isEmpty_0 12 rfl rfl)
abbrev cJ2_addAll : ByteArray := prog_45_method_41_code
def yJ2_addAll : MethodName := ⟨RJ2, "addAll", "(Ljava/util/Collection;)Z"⟩
def dkwJ2_addAll_3 : List UInt8 := [181, 0, 48, 4, 172]
abbrev dktJ2_addAll_3 : List UInt8 := dkwJ2_addAll_3 ++ []
def dkwJ2_addAll_2 : List UInt8 := [21, 5, 29, 96, 182, 0, 69, 58, 4, 44, 3, 25, 4, 21, 5, 29, 184, 0, 112, 42, 21, 5, 29, 96]
abbrev dktJ2_addAll_2 : List UInt8 := dkwJ2_addAll_2 ++ dktJ2_addAll_3
def dkwJ2_addAll_1 : List UInt8 := [3, 172, 29, 42, 180, 0, 9, 89, 58, 4, 190, 42, 180, 0, 48, 89, 54, 5, 100, 164, 0, 13, 42]
abbrev dktJ2_addAll_1 : List UInt8 := dkwJ2_addAll_1 ++ dktJ2_addAll_2
def dkwJ2_addAll_0 : List UInt8 := [43, 185, 0, 42, 1, 0, 77, 42, 89, 180, 0, 63, 4, 96, 181, 0, 63, 44, 190, 62, 29, 154, 0, 5]
abbrev dktJ2_addAll_0 : List UInt8 := dkwJ2_addAll_0 ++ dktJ2_addAll_1
theorem dksJ2_addAll_0 : cJ2_addAll.data.toList.drop 0 = dktJ2_addAll_0 := by decide +kernel
theorem dksJ2_addAll_1 : cJ2_addAll.data.toList.drop 24 = dktJ2_addAll_1 := dk_seg dksJ2_addAll_0 24 rfl rfl
theorem dksJ2_addAll_2 : cJ2_addAll.data.toList.drop 47 = dktJ2_addAll_2 := dk_seg dksJ2_addAll_1 23 rfl rfl
theorem dksJ2_addAll_3 : cJ2_addAll.data.toList.drop 71 = dktJ2_addAll_3 := dk_seg dksJ2_addAll_2 24 rfl rfl
theorem dJ2_addAll_0 : decode cJ2_addAll 0 = .ok (.aload_n 1, 1) := dk_43 (dk_at dksJ2_addAll_0 0 rfl rfl)
theorem dJ2_addAll_1 : decode cJ2_addAll 1 = .ok (.invokeinterface 42 1, 5) := by decide +kernel
theorem dJ2_addAll_6 : decode cJ2_addAll 6 = .ok (.astore_n 2, 1) := dk_77 (dk_at dksJ2_addAll_0 6 rfl rfl)
theorem dJ2_addAll_7 : decode cJ2_addAll 7 = .ok (.aload_n 0, 1) := dk_42 (dk_at dksJ2_addAll_0 7 rfl rfl)
theorem dJ2_addAll_8 : decode cJ2_addAll 8 = .ok (.dup, 1) := dk_89 (dk_at dksJ2_addAll_0 8 rfl rfl)
theorem dJ2_addAll_9 : decode cJ2_addAll 9 = .ok (.getfield 63, 3) := dk_180 0 63 (dk_at dksJ2_addAll_0 9 rfl rfl)
theorem dJ2_addAll_12 : decode cJ2_addAll 12 = .ok (.iconst 1, 1) := dk_4 (dk_at dksJ2_addAll_0 12 rfl rfl)
theorem dJ2_addAll_13 : decode cJ2_addAll 13 = .ok (.iadd, 1) := dk_96 (dk_at dksJ2_addAll_0 13 rfl rfl)
theorem dJ2_addAll_14 : decode cJ2_addAll 14 = .ok (.putfield 63, 3) := dk_181 0 63 (dk_at dksJ2_addAll_0 14 rfl rfl)
theorem dJ2_addAll_17 : decode cJ2_addAll 17 = .ok (.aload_n 2, 1) := dk_44 (dk_at dksJ2_addAll_0 17 rfl rfl)
theorem dJ2_addAll_18 : decode cJ2_addAll 18 = .ok (.arraylength, 1) := dk_190 (dk_at dksJ2_addAll_0 18 rfl rfl)
theorem dJ2_addAll_19 : decode cJ2_addAll 19 = .ok (.istore_n 3, 1) := dk_62 (dk_at dksJ2_addAll_0 19 rfl rfl)
theorem dJ2_addAll_20 : decode cJ2_addAll 20 = .ok (.iload_n 3, 1) := dk_29 (dk_at dksJ2_addAll_0 20 rfl rfl)
theorem dJ2_addAll_21 : decode cJ2_addAll 21 = .ok (.ifCond .ne 5, 3) := dk_154 0 5 (dk_at dksJ2_addAll_0 21 rfl rfl)
theorem dJ2_addAll_24 : decode cJ2_addAll 24 = .ok (.iconst 0, 1) := dk_3 (dk_at dksJ2_addAll_1 0 rfl rfl)
theorem dJ2_addAll_25 : decode cJ2_addAll 25 = .ok (.ireturn, 1) := dk_172 (dk_at dksJ2_addAll_1 1 rfl rfl)
theorem dJ2_addAll_26 : decode cJ2_addAll 26 = .ok (.iload_n 3, 1) := dk_29 (dk_at dksJ2_addAll_1 2 rfl rfl)
theorem dJ2_addAll_27 : decode cJ2_addAll 27 = .ok (.aload_n 0, 1) := dk_42 (dk_at dksJ2_addAll_1 3 rfl rfl)
theorem dJ2_addAll_28 : decode cJ2_addAll 28 = .ok (.getfield 9, 3) := dk_180 0 9 (dk_at dksJ2_addAll_1 4 rfl rfl)
theorem dJ2_addAll_31 : decode cJ2_addAll 31 = .ok (.dup, 1) := dk_89 (dk_at dksJ2_addAll_1 7 rfl rfl)
theorem dJ2_addAll_32 : decode cJ2_addAll 32 = .ok (.astore 4, 2) := dk_58 4 (dk_at dksJ2_addAll_1 8 rfl rfl)
theorem dJ2_addAll_34 : decode cJ2_addAll 34 = .ok (.arraylength, 1) := dk_190 (dk_at dksJ2_addAll_1 10 rfl rfl)
theorem dJ2_addAll_35 : decode cJ2_addAll 35 = .ok (.aload_n 0, 1) := dk_42 (dk_at dksJ2_addAll_1 11 rfl rfl)
theorem dJ2_addAll_36 : decode cJ2_addAll 36 = .ok (.getfield 48, 3) := dk_180 0 48 (dk_at dksJ2_addAll_1 12 rfl rfl)
theorem dJ2_addAll_39 : decode cJ2_addAll 39 = .ok (.dup, 1) := dk_89 (dk_at dksJ2_addAll_1 15 rfl rfl)
theorem dJ2_addAll_40 : decode cJ2_addAll 40 = .ok (.istore 5, 2) := dk_54 5 (dk_at dksJ2_addAll_1 16 rfl rfl)
theorem dJ2_addAll_42 : decode cJ2_addAll 42 = .ok (.isub, 1) := dk_100 (dk_at dksJ2_addAll_1 18 rfl rfl)
theorem dJ2_addAll_43 : decode cJ2_addAll 43 = .ok (.if_icmp .le 13, 3) := dk_164 0 13 (dk_at dksJ2_addAll_1 19 rfl rfl)
theorem dJ2_addAll_46 : decode cJ2_addAll 46 = .ok (.aload_n 0, 1) := dk_42 (dk_at dksJ2_addAll_1 22 rfl rfl)
theorem dJ2_addAll_47 : decode cJ2_addAll 47 = .ok (.iload 5, 2) := dk_21 5 (dk_at dksJ2_addAll_2 0 rfl rfl)
theorem dJ2_addAll_49 : decode cJ2_addAll 49 = .ok (.iload_n 3, 1) := dk_29 (dk_at dksJ2_addAll_2 2 rfl rfl)
theorem dJ2_addAll_50 : decode cJ2_addAll 50 = .ok (.iadd, 1) := dk_96 (dk_at dksJ2_addAll_2 3 rfl rfl)
theorem dJ2_addAll_51 : decode cJ2_addAll 51 = .ok (.invokevirtual 69, 3) := dk_182 0 69 (dk_at dksJ2_addAll_2 4 rfl rfl)
theorem dJ2_addAll_54 : decode cJ2_addAll 54 = .ok (.astore 4, 2) := dk_58 4 (dk_at dksJ2_addAll_2 7 rfl rfl)
theorem dJ2_addAll_56 : decode cJ2_addAll 56 = .ok (.aload_n 2, 1) := dk_44 (dk_at dksJ2_addAll_2 9 rfl rfl)
theorem dJ2_addAll_57 : decode cJ2_addAll 57 = .ok (.iconst 0, 1) := dk_3 (dk_at dksJ2_addAll_2 10 rfl rfl)
theorem dJ2_addAll_58 : decode cJ2_addAll 58 = .ok (.aload 4, 2) := dk_25 4 (dk_at dksJ2_addAll_2 11 rfl rfl)
theorem dJ2_addAll_60 : decode cJ2_addAll 60 = .ok (.iload 5, 2) := dk_21 5 (dk_at dksJ2_addAll_2 13 rfl rfl)
theorem dJ2_addAll_62 : decode cJ2_addAll 62 = .ok (.iload_n 3, 1) := dk_29 (dk_at dksJ2_addAll_2 15 rfl rfl)
theorem dJ2_addAll_63 : decode cJ2_addAll 63 = .ok (.invokestatic 112, 3) := dk_184 0 112 (dk_at dksJ2_addAll_2 16 rfl rfl)
theorem dJ2_addAll_66 : decode cJ2_addAll 66 = .ok (.aload_n 0, 1) := dk_42 (dk_at dksJ2_addAll_2 19 rfl rfl)
theorem dJ2_addAll_67 : decode cJ2_addAll 67 = .ok (.iload 5, 2) := dk_21 5 (dk_at dksJ2_addAll_2 20 rfl rfl)
theorem dJ2_addAll_69 : decode cJ2_addAll 69 = .ok (.iload_n 3, 1) := dk_29 (dk_at dksJ2_addAll_2 22 rfl rfl)
theorem dJ2_addAll_70 : decode cJ2_addAll 70 = .ok (.iadd, 1) := dk_96 (dk_at dksJ2_addAll_2 23 rfl rfl)
theorem dJ2_addAll_71 : decode cJ2_addAll 71 = .ok (.putfield 48, 3) := dk_181 0 48 (dk_at dksJ2_addAll_3 0 rfl rfl)
theorem dJ2_addAll_74 : decode cJ2_addAll 74 = .ok (.iconst 1, 1) := dk_4 (dk_at dksJ2_addAll_3 3 rfl rfl)
theorem dJ2_addAll_75 : decode cJ2_addAll 75 = .ok (.ireturn, 1) := dk_172 (dk_at dksJ2_addAll_3 4 rfl rfl)
abbrev cJ2_toArray : ByteArray := prog_45_method_16_code
def yJ2_toArray : MethodName := ⟨RJ2, "toArray", "()[Ljava/lang/Object;"⟩
def dkwJ2_toArray_0 : List UInt8 := [42, 180, 0, 9, 42, 180, 0, 48, 184, 0, 66, 176]
abbrev dktJ2_toArray_0 : List UInt8 := dkwJ2_toArray_0 ++ []
theorem dksJ2_toArray_0 : cJ2_toArray.data.toList.drop 0 = dktJ2_toArray_0 := by decide +kernel
theorem dJ2_toArray_0 : decode cJ2_toArray 0 = .ok (.aload_n 0, 1) := dk_42 (dk_at dksJ2_toArray_0 0 rfl rfl)
theorem dJ2_toArray_1 : decode cJ2_toArray 1 = .ok (.getfield 9, 3) := dk_180 0 9 (dk_at dksJ2_toArray_0 1 rfl rfl)
theorem dJ2_toArray_4 : decode cJ2_toArray 4 = .ok (.aload_n 0, 1) := dk_42 (dk_at dksJ2_toArray_0 4 rfl rfl)
theorem dJ2_toArray_5 : decode cJ2_toArray 5 = .ok (.getfield 48, 3) := dk_180 0 48 (dk_at dksJ2_toArray_0 5 rfl rfl)
theorem dJ2_toArray_8 : decode cJ2_toArray 8 = .ok (.invokestatic 66, 3) := dk_184 0 66 (dk_at dksJ2_toArray_0 8 rfl rfl)
theorem dJ2_toArray_11 : decode cJ2_toArray 11 = .ok (.areturn, 1) := dk_176 (dk_at dksJ2_toArray_0 11 rfl rfl)
abbrev cJ2_iterator : ByteArray := prog_45_method_55_code
def yJ2_iterator : MethodName := ⟨RJ2, "iterator", "()Ljava/util/Iterator;"⟩
def dkwJ2_iterator_0 : List UInt8 := [187, 1, 11, 89, 42, 183, 1, 13, 176]
abbrev dktJ2_iterator_0 : List UInt8 := dkwJ2_iterator_0 ++ []
theorem dksJ2_iterator_0 : cJ2_iterator.data.toList.drop 0 = dktJ2_iterator_0 := by decide +kernel
theorem dJ2_iterator_0 : decode cJ2_iterator 0 = .ok (.new 267, 3) := dk_187 1 11 (dk_at dksJ2_iterator_0 0 rfl rfl)
theorem dJ2_iterator_3 : decode cJ2_iterator 3 = .ok (.dup, 1) := dk_89 (dk_at dksJ2_iterator_0 3 rfl rfl)
theorem dJ2_iterator_4 : decode cJ2_iterator 4 = .ok (.aload_n 0, 1) := dk_42 (dk_at dksJ2_iterator_0 4 rfl rfl)
theorem dJ2_iterator_5 : decode cJ2_iterator 5 = .ok (.invokespecial 269, 3) := dk_183 1 13 (dk_at dksJ2_iterator_0 5 rfl rfl)
theorem dJ2_iterator_8 : decode cJ2_iterator 8 = .ok (.areturn, 1) := dk_176 (dk_at dksJ2_iterator_0 8 rfl rfl)
abbrev cJ2_contains : ByteArray := prog_45_method_10_code
def yJ2_contains : MethodName := ⟨RJ2, "contains", "(Ljava/lang/Object;)Z"⟩
def dkwJ2_contains_0 : List UInt8 := [42, 43, 182, 0, 85, 155, 0, 7, 4, 167, 0, 4, 3, 172]
abbrev dktJ2_contains_0 : List UInt8 := dkwJ2_contains_0 ++ []
theorem dksJ2_contains_0 : cJ2_contains.data.toList.drop 0 = dktJ2_contains_0 := by decide +kernel
theorem dJ2_contains_0 : decode cJ2_contains 0 = .ok (.aload_n 0, 1) := dk_42 (dk_at dksJ2_contains_0 0 rfl rfl)
theorem dJ2_contains_1 : decode cJ2_contains 1 = .ok (.aload_n 1, 1) := dk_43 (dk_at dksJ2_contains_0 1 rfl rfl)
theorem dJ2_contains_2 : decode cJ2_contains 2 = .ok (.invokevirtual 85, 3) := dk_182 0 85 (dk_at dksJ2_contains_0 2 rfl rfl)
theorem dJ2_contains_5 : decode cJ2_contains 5 = .ok (.ifCond .lt 7, 3) := dk_155 0 7 (dk_at dksJ2_contains_0 5 rfl rfl)
theorem dJ2_contains_8 : decode cJ2_contains 8 = .ok (.iconst 1, 1) := dk_4 (dk_at dksJ2_contains_0 8 rfl rfl)
theorem dJ2_contains_9 : decode cJ2_contains 9 = .ok (.goto 4, 3) := dk_167 0 4 (dk_at dksJ2_contains_0 9 rfl rfl)
theorem dJ2_contains_12 : decode cJ2_contains 12 = .ok (.iconst 0, 1) := dk_3 (dk_at dksJ2_contains_0 12 rfl rfl)
theorem dJ2_contains_13 : decode cJ2_contains 13 = .ok (.ireturn, 1) := dk_172 (dk_at dksJ2_contains_0 13 rfl rfl)
abbrev cJ2_indexOf : ByteArray := prog_45_method_11_code
def yJ2_indexOf : MethodName := ⟨RJ2, "indexOf", "(Ljava/lang/Object;)I"⟩
def dkwJ2_indexOf_0 : List UInt8 := [42, 43, 3, 42, 180, 0, 48, 182, 0, 89, 172]
abbrev dktJ2_indexOf_0 : List UInt8 := dkwJ2_indexOf_0 ++ []
theorem dksJ2_indexOf_0 : cJ2_indexOf.data.toList.drop 0 = dktJ2_indexOf_0 := by decide +kernel
theorem dJ2_indexOf_0 : decode cJ2_indexOf 0 = .ok (.aload_n 0, 1) := dk_42 (dk_at dksJ2_indexOf_0 0 rfl rfl)
theorem dJ2_indexOf_1 : decode cJ2_indexOf 1 = .ok (.aload_n 1, 1) := dk_43 (dk_at dksJ2_indexOf_0 1 rfl rfl)
theorem dJ2_indexOf_2 : decode cJ2_indexOf 2 = .ok (.iconst 0, 1) := dk_3 (dk_at dksJ2_indexOf_0 2 rfl rfl)
theorem dJ2_indexOf_3 : decode cJ2_indexOf 3 = .ok (.aload_n 0, 1) := dk_42 (dk_at dksJ2_indexOf_0 3 rfl rfl)
theorem dJ2_indexOf_4 : decode cJ2_indexOf 4 = .ok (.getfield 48, 3) := dk_180 0 48 (dk_at dksJ2_indexOf_0 4 rfl rfl)
theorem dJ2_indexOf_7 : decode cJ2_indexOf 7 = .ok (.invokevirtual 89, 3) := dk_182 0 89 (dk_at dksJ2_indexOf_0 7 rfl rfl)
theorem dJ2_indexOf_10 : decode cJ2_indexOf 10 = .ok (.ireturn, 1) := dk_172 (dk_at dksJ2_indexOf_0 10 rfl rfl)
abbrev cJ2_indexOfRange : ByteArray := prog_45_method_12_code
def yJ2_indexOfRange : MethodName := ⟨RJ2, "indexOfRange", "(Ljava/lang/Object;II)I"⟩
def dkwJ2_indexOfRange_2 : List UInt8 := [43, 25, 4, 21, 5, 50, 182, 0, 93, 153, 0, 6, 21, 5, 172, 132, 5, 1, 167, 255, 232, 2, 172]
abbrev dktJ2_indexOfRange_2 : List UInt8 := dkwJ2_indexOfRange_2 ++ []
def dkwJ2_indexOfRange_1 : List UInt8 := [199, 0, 6, 21, 5, 172, 132, 5, 1, 167, 255, 236, 167, 0, 33, 28, 54, 5, 21, 5, 29, 162, 0, 24]
abbrev dktJ2_indexOfRange_1 : List UInt8 := dkwJ2_indexOfRange_1 ++ dktJ2_indexOfRange_2
def dkwJ2_indexOfRange_0 : List UInt8 := [42, 180, 0, 9, 58, 4, 43, 199, 0, 32, 28, 54, 5, 21, 5, 29, 162, 0, 20, 25, 4, 21, 5, 50]
abbrev dktJ2_indexOfRange_0 : List UInt8 := dkwJ2_indexOfRange_0 ++ dktJ2_indexOfRange_1
theorem dksJ2_indexOfRange_0 : cJ2_indexOfRange.data.toList.drop 0 = dktJ2_indexOfRange_0 := by decide +kernel
theorem dksJ2_indexOfRange_1 : cJ2_indexOfRange.data.toList.drop 24 = dktJ2_indexOfRange_1 := dk_seg dksJ2_indexOfRange_0 24 rfl rfl
theorem dksJ2_indexOfRange_2 : cJ2_indexOfRange.data.toList.drop 48 = dktJ2_indexOfRange_2 := dk_seg dksJ2_indexOfRange_1 24 rfl rfl
theorem dJ2_indexOfRange_0 : decode cJ2_indexOfRange 0 = .ok (.aload_n 0, 1) := dk_42 (dk_at dksJ2_indexOfRange_0 0 rfl rfl)
theorem dJ2_indexOfRange_1 : decode cJ2_indexOfRange 1 = .ok (.getfield 9, 3) := dk_180 0 9 (dk_at dksJ2_indexOfRange_0 1 rfl rfl)
theorem dJ2_indexOfRange_4 : decode cJ2_indexOfRange 4 = .ok (.astore 4, 2) := dk_58 4 (dk_at dksJ2_indexOfRange_0 4 rfl rfl)
theorem dJ2_indexOfRange_6 : decode cJ2_indexOfRange 6 = .ok (.aload_n 1, 1) := dk_43 (dk_at dksJ2_indexOfRange_0 6 rfl rfl)
theorem dJ2_indexOfRange_7 : decode cJ2_indexOfRange 7 = .ok (.ifnonnull 32, 3) := dk_199 0 32 (dk_at dksJ2_indexOfRange_0 7 rfl rfl)
theorem dJ2_indexOfRange_10 : decode cJ2_indexOfRange 10 = .ok (.iload_n 2, 1) := dk_28 (dk_at dksJ2_indexOfRange_0 10 rfl rfl)
theorem dJ2_indexOfRange_11 : decode cJ2_indexOfRange 11 = .ok (.istore 5, 2) := dk_54 5 (dk_at dksJ2_indexOfRange_0 11 rfl rfl)
theorem dJ2_indexOfRange_13 : decode cJ2_indexOfRange 13 = .ok (.iload 5, 2) := dk_21 5 (dk_at dksJ2_indexOfRange_0 13 rfl rfl)
theorem dJ2_indexOfRange_15 : decode cJ2_indexOfRange 15 = .ok (.iload_n 3, 1) := dk_29 (dk_at dksJ2_indexOfRange_0 15 rfl rfl)
theorem dJ2_indexOfRange_16 : decode cJ2_indexOfRange 16 = .ok (.if_icmp .ge 20, 3) := dk_162 0 20 (dk_at dksJ2_indexOfRange_0 16 rfl rfl)
theorem dJ2_indexOfRange_19 : decode cJ2_indexOfRange 19 = .ok (.aload 4, 2) := dk_25 4 (dk_at dksJ2_indexOfRange_0 19 rfl rfl)
theorem dJ2_indexOfRange_21 : decode cJ2_indexOfRange 21 = .ok (.iload 5, 2) := dk_21 5 (dk_at dksJ2_indexOfRange_0 21 rfl rfl)
theorem dJ2_indexOfRange_23 : decode cJ2_indexOfRange 23 = .ok (.aaload, 1) := dk_50 (dk_at dksJ2_indexOfRange_0 23 rfl rfl)
theorem dJ2_indexOfRange_24 : decode cJ2_indexOfRange 24 = .ok (.ifnonnull 6, 3) := dk_199 0 6 (dk_at dksJ2_indexOfRange_1 0 rfl rfl)
theorem dJ2_indexOfRange_27 : decode cJ2_indexOfRange 27 = .ok (.iload 5, 2) := dk_21 5 (dk_at dksJ2_indexOfRange_1 3 rfl rfl)
theorem dJ2_indexOfRange_29 : decode cJ2_indexOfRange 29 = .ok (.ireturn, 1) := dk_172 (dk_at dksJ2_indexOfRange_1 5 rfl rfl)
theorem dJ2_indexOfRange_30 : decode cJ2_indexOfRange 30 = .ok (.iinc 5 1, 3) := dk_132 5 1 (dk_at dksJ2_indexOfRange_1 6 rfl rfl)
theorem dJ2_indexOfRange_33 : decode cJ2_indexOfRange 33 = .ok (.goto (-20), 3) := dk_167 255 236 (dk_at dksJ2_indexOfRange_1 9 rfl rfl)
theorem dJ2_indexOfRange_36 : decode cJ2_indexOfRange 36 = .ok (.goto 33, 3) := dk_167 0 33 (dk_at dksJ2_indexOfRange_1 12 rfl rfl)
theorem dJ2_indexOfRange_39 : decode cJ2_indexOfRange 39 = .ok (.iload_n 2, 1) := dk_28 (dk_at dksJ2_indexOfRange_1 15 rfl rfl)
theorem dJ2_indexOfRange_40 : decode cJ2_indexOfRange 40 = .ok (.istore 5, 2) := dk_54 5 (dk_at dksJ2_indexOfRange_1 16 rfl rfl)
theorem dJ2_indexOfRange_42 : decode cJ2_indexOfRange 42 = .ok (.iload 5, 2) := dk_21 5 (dk_at dksJ2_indexOfRange_1 18 rfl rfl)
theorem dJ2_indexOfRange_44 : decode cJ2_indexOfRange 44 = .ok (.iload_n 3, 1) := dk_29 (dk_at dksJ2_indexOfRange_1 20 rfl rfl)
theorem dJ2_indexOfRange_45 : decode cJ2_indexOfRange 45 = .ok (.if_icmp .ge 24, 3) := dk_162 0 24 (dk_at dksJ2_indexOfRange_1 21 rfl rfl)
theorem dJ2_indexOfRange_48 : decode cJ2_indexOfRange 48 = .ok (.aload_n 1, 1) := dk_43 (dk_at dksJ2_indexOfRange_2 0 rfl rfl)
theorem dJ2_indexOfRange_49 : decode cJ2_indexOfRange 49 = .ok (.aload 4, 2) := dk_25 4 (dk_at dksJ2_indexOfRange_2 1 rfl rfl)
theorem dJ2_indexOfRange_51 : decode cJ2_indexOfRange 51 = .ok (.iload 5, 2) := dk_21 5 (dk_at dksJ2_indexOfRange_2 3 rfl rfl)
theorem dJ2_indexOfRange_53 : decode cJ2_indexOfRange 53 = .ok (.aaload, 1) := dk_50 (dk_at dksJ2_indexOfRange_2 5 rfl rfl)
theorem dJ2_indexOfRange_54 : decode cJ2_indexOfRange 54 = .ok (.invokevirtual 93, 3) := dk_182 0 93 (dk_at dksJ2_indexOfRange_2 6 rfl rfl)
theorem dJ2_indexOfRange_57 : decode cJ2_indexOfRange 57 = .ok (.ifCond .eq 6, 3) := dk_153 0 6 (dk_at dksJ2_indexOfRange_2 9 rfl rfl)
theorem dJ2_indexOfRange_60 : decode cJ2_indexOfRange 60 = .ok (.iload 5, 2) := dk_21 5 (dk_at dksJ2_indexOfRange_2 12 rfl rfl)
theorem dJ2_indexOfRange_62 : decode cJ2_indexOfRange 62 = .ok (.ireturn, 1) := dk_172 (dk_at dksJ2_indexOfRange_2 14 rfl rfl)
theorem dJ2_indexOfRange_63 : decode cJ2_indexOfRange 63 = .ok (.iinc 5 1, 3) := dk_132 5 1 (dk_at dksJ2_indexOfRange_2 15 rfl rfl)
theorem dJ2_indexOfRange_66 : decode cJ2_indexOfRange 66 = .ok (.goto (-24), 3) := dk_167 255 232 (dk_at dksJ2_indexOfRange_2 18 rfl rfl)
theorem dJ2_indexOfRange_69 : decode cJ2_indexOfRange 69 = .ok (.iconst (-1), 1) := dk_2 (dk_at dksJ2_indexOfRange_2 21 rfl rfl)
theorem dJ2_indexOfRange_70 : decode cJ2_indexOfRange 70 = .ok (.ireturn, 1) := dk_172 (dk_at dksJ2_indexOfRange_2 22 rfl rfl)
abbrev cJ2_init_2 : ByteArray := prog_45_method_3_code
def yJ2_init_2 : MethodName := ⟨RJ2, "<init>", "(Ljava/util/Collection;)V"⟩
def dkwJ2_init_2_2 : List UInt8 := [18, 56, 184, 0, 57, 181, 0, 9, 167, 0, 10, 42, 178, 0, 15, 181, 0, 9, 177]
abbrev dktJ2_init_2_2 : List UInt8 := dkwJ2_init_2_2 ++ []
def dkwJ2_init_2_1 : List UInt8 := [185, 0, 52, 1, 0, 18, 10, 166, 0, 11, 42, 44, 181, 0, 9, 167, 0, 27, 42, 44, 42, 180, 0, 48]
abbrev dktJ2_init_2_1 : List UInt8 := dkwJ2_init_2_1 ++ dktJ2_init_2_2
def dkwJ2_init_2_0 : List UInt8 := [42, 183, 0, 1, 43, 185, 0, 42, 1, 0, 77, 42, 44, 190, 90, 181, 0, 48, 153, 0, 39, 43]
abbrev dktJ2_init_2_0 : List UInt8 := dkwJ2_init_2_0 ++ dktJ2_init_2_1
theorem dksJ2_init_2_0 : cJ2_init_2.data.toList.drop 0 = dktJ2_init_2_0 := by decide +kernel
theorem dksJ2_init_2_1 : cJ2_init_2.data.toList.drop 22 = dktJ2_init_2_1 := dk_seg dksJ2_init_2_0 22 rfl rfl
theorem dksJ2_init_2_2 : cJ2_init_2.data.toList.drop 46 = dktJ2_init_2_2 := dk_seg dksJ2_init_2_1 24 rfl rfl
theorem dJ2_init_2_0 : decode cJ2_init_2 0 = .ok (.aload_n 0, 1) := dk_42 (dk_at dksJ2_init_2_0 0 rfl rfl)
theorem dJ2_init_2_1 : decode cJ2_init_2 1 = .ok (.invokespecial 1, 3) := dk_183 0 1 (dk_at dksJ2_init_2_0 1 rfl rfl)
theorem dJ2_init_2_4 : decode cJ2_init_2 4 = .ok (.aload_n 1, 1) := dk_43 (dk_at dksJ2_init_2_0 4 rfl rfl)
theorem dJ2_init_2_5 : decode cJ2_init_2 5 = .ok (.invokeinterface 42 1, 5) := by decide +kernel
theorem dJ2_init_2_10 : decode cJ2_init_2 10 = .ok (.astore_n 2, 1) := dk_77 (dk_at dksJ2_init_2_0 10 rfl rfl)
theorem dJ2_init_2_11 : decode cJ2_init_2 11 = .ok (.aload_n 0, 1) := dk_42 (dk_at dksJ2_init_2_0 11 rfl rfl)
theorem dJ2_init_2_12 : decode cJ2_init_2 12 = .ok (.aload_n 2, 1) := dk_44 (dk_at dksJ2_init_2_0 12 rfl rfl)
theorem dJ2_init_2_13 : decode cJ2_init_2 13 = .ok (.arraylength, 1) := dk_190 (dk_at dksJ2_init_2_0 13 rfl rfl)
theorem dJ2_init_2_14 : decode cJ2_init_2 14 = .ok (.dup_x1, 1) := dk_90 (dk_at dksJ2_init_2_0 14 rfl rfl)
theorem dJ2_init_2_15 : decode cJ2_init_2 15 = .ok (.putfield 48, 3) := dk_181 0 48 (dk_at dksJ2_init_2_0 15 rfl rfl)
theorem dJ2_init_2_18 : decode cJ2_init_2 18 = .ok (.ifCond .eq 39, 3) := dk_153 0 39 (dk_at dksJ2_init_2_0 18 rfl rfl)
theorem dJ2_init_2_21 : decode cJ2_init_2 21 = .ok (.aload_n 1, 1) := dk_43 (dk_at dksJ2_init_2_0 21 rfl rfl)
theorem dJ2_init_2_22 : decode cJ2_init_2 22 = .ok (.invokeinterface 52 1, 5) := by decide +kernel
theorem dJ2_init_2_27 : decode cJ2_init_2 27 = .ok (.ldc 10, 2) := dk_18 10 (dk_at dksJ2_init_2_1 5 rfl rfl)
theorem dJ2_init_2_29 : decode cJ2_init_2 29 = .ok (.if_acmp .ne 11, 3) := dk_166 0 11 (dk_at dksJ2_init_2_1 7 rfl rfl)
theorem dJ2_init_2_32 : decode cJ2_init_2 32 = .ok (.aload_n 0, 1) := dk_42 (dk_at dksJ2_init_2_1 10 rfl rfl)
theorem dJ2_init_2_33 : decode cJ2_init_2 33 = .ok (.aload_n 2, 1) := dk_44 (dk_at dksJ2_init_2_1 11 rfl rfl)
theorem dJ2_init_2_34 : decode cJ2_init_2 34 = .ok (.putfield 9, 3) := dk_181 0 9 (dk_at dksJ2_init_2_1 12 rfl rfl)
theorem dJ2_init_2_37 : decode cJ2_init_2 37 = .ok (.goto 27, 3) := dk_167 0 27 (dk_at dksJ2_init_2_1 15 rfl rfl)
theorem dJ2_init_2_40 : decode cJ2_init_2 40 = .ok (.aload_n 0, 1) := dk_42 (dk_at dksJ2_init_2_1 18 rfl rfl)
theorem dJ2_init_2_41 : decode cJ2_init_2 41 = .ok (.aload_n 2, 1) := dk_44 (dk_at dksJ2_init_2_1 19 rfl rfl)
theorem dJ2_init_2_42 : decode cJ2_init_2 42 = .ok (.aload_n 0, 1) := dk_42 (dk_at dksJ2_init_2_1 20 rfl rfl)
theorem dJ2_init_2_43 : decode cJ2_init_2 43 = .ok (.getfield 48, 3) := dk_180 0 48 (dk_at dksJ2_init_2_1 21 rfl rfl)
theorem dJ2_init_2_46 : decode cJ2_init_2 46 = .ok (.ldc 56, 2) := dk_18 56 (dk_at dksJ2_init_2_2 0 rfl rfl)
theorem dJ2_init_2_48 : decode cJ2_init_2 48 = .ok (.invokestatic 57, 3) := dk_184 0 57 (dk_at dksJ2_init_2_2 2 rfl rfl)
theorem dJ2_init_2_51 : decode cJ2_init_2 51 = .ok (.putfield 9, 3) := dk_181 0 9 (dk_at dksJ2_init_2_2 5 rfl rfl)
theorem dJ2_init_2_54 : decode cJ2_init_2 54 = .ok (.goto 10, 3) := dk_167 0 10 (dk_at dksJ2_init_2_2 8 rfl rfl)
theorem dJ2_init_2_57 : decode cJ2_init_2 57 = .ok (.aload_n 0, 1) := dk_42 (dk_at dksJ2_init_2_2 11 rfl rfl)
theorem dJ2_init_2_58 : decode cJ2_init_2 58 = .ok (.getstatic 15, 3) := dk_178 0 15 (dk_at dksJ2_init_2_2 12 rfl rfl)
theorem dJ2_init_2_61 : decode cJ2_init_2 61 = .ok (.putfield 9, 3) := dk_181 0 9 (dk_at dksJ2_init_2_2 15 rfl rfl)
theorem dJ2_init_2_64 : decode cJ2_init_2 64 = .ok (.return_, 1) := dk_177 (dk_at dksJ2_init_2_2 18 rfl rfl)
theorem q69 : (Jvm.Cond.initialized "java/util/ArrayList") ∈ lw_all := lw_g (lw_at lw_m1 6 rfl) rfl
theorem q134 : (Jvm.Cond.instantiable "java/util/ArrayList" (3 : Nat)) ∈ lw_all := lw_g (lw_at lw_m1 71 rfl) rfl
theorem q136 : (Jvm.Cond.instanceMethod ({ cls := "java/util/ArrayList", name := "<init>", desc := "()V" } : Jvm.MethodName)) ∈ lw_all := lw_g (lw_at lw_m1 73 rfl) rfl
theorem q137 : (Jvm.Cond.code ({ cls := "java/util/ArrayList", name := "<init>", desc := "()V" } : Jvm.MethodName) prog_45_method_2_code (1 : Nat) (Option.none : Option Jvm.ClassFile.FieldType)) ∈ lw_all := lw_g (lw_at lw_m1 74 rfl) rfl
theorem q138 : (Jvm.Cond.methodLink "java/util/ArrayList" (1 : Nat) ({ cls := "java/util/AbstractList", name := "<init>", desc := "()V" } : Jvm.MethodName)) ∈ lw_all := lw_g (lw_at lw_m1 75 rfl) rfl
theorem q145 : (Jvm.Cond.fieldLink "java/util/ArrayList" (39 : Nat) "java/util/ArrayList" "DEFAULTCAPACITY_EMPTY_ELEMENTDATA" "[Ljava/lang/Object;") ∈ lw_all := lw_g (lw_at lw_m1 82 rfl) rfl
theorem q146 : (Jvm.Cond.laysStatic "java/util/ArrayList" "DEFAULTCAPACITY_EMPTY_ELEMENTDATA" "[Ljava/lang/Object;") ∈ lw_tbl := lw_at lw_m1 83 rfl
theorem q147 : (Jvm.Cond.fieldLink "java/util/ArrayList" (9 : Nat) "java/util/ArrayList" "elementData" "[Ljava/lang/Object;") ∈ lw_all := lw_g (lw_at lw_m1 84 rfl) rfl
theorem q150 : (Jvm.Cond.fieldLink "java/util/ArrayList" (48 : Nat) "java/util/ArrayList" "size" "I") ∈ lw_all := lw_g (lw_at lw_m1 87 rfl) rfl
theorem q153 : (Jvm.Cond.sameField "java/util/ArrayList" "java/util/AbstractList" "modCount" "I") ∈ lw_all := lw_g (lw_at lw_m1 90 rfl) rfl
theorem q154 : (Jvm.Cond.fieldLink "java/util/ArrayList" (63 : Nat) "java/util/ArrayList" "modCount" "I") ∈ lw_all := lw_g (lw_at lw_m1 91 rfl) rfl
theorem q155 : (Jvm.Cond.lays "java/util/ArrayList" "java/util/ArrayList" "elementData" "[Ljava/lang/Object;") ∈ lw_all := lw_g (lw_at lw_m1 92 rfl) rfl
theorem q156 : (Jvm.Cond.soleField "java/util/ArrayList" "elementData") ∈ lw_all := lw_g (lw_at lw_m1 93 rfl) rfl
theorem q157 : (Jvm.Cond.lays "java/util/ArrayList" "java/util/ArrayList" "size" "I") ∈ lw_all := lw_g (lw_at lw_m1 94 rfl) rfl
theorem q158 : (Jvm.Cond.soleField "java/util/ArrayList" "size") ∈ lw_all := lw_g (lw_at lw_m1 95 rfl) rfl
theorem q159 : (Jvm.Cond.lays "java/util/ArrayList" "java/util/AbstractList" "modCount" "I") ∈ lw_all := lw_g (lw_at lw_m1 96 rfl) rfl
theorem q161 : (Jvm.Cond.superclass "java/util/ArrayList" "java/util/AbstractList") ∈ lw_all := lw_g (lw_at lw_m1 98 rfl) rfl
theorem q167 : (Jvm.Cond.instanceMethod ({ cls := "java/util/ArrayList", name := "clear", desc := "()V" } : Jvm.MethodName)) ∈ lw_all := lw_g (lw_at lw_m1 104 rfl) rfl
theorem q168 : (Jvm.Cond.selects "java/util/ArrayList" ({ cls := "java/util/ArrayList", name := "clear", desc := "()V" } : Jvm.MethodName) ({ cls := "java/util/ArrayList", name := "clear", desc := "()V" } : Jvm.MethodName)) ∈ lw_all := lw_g (lw_at lw_m1 105 rfl) rfl
theorem q169 : (Jvm.Cond.code ({ cls := "java/util/ArrayList", name := "clear", desc := "()V" } : Jvm.MethodName) prog_45_method_40_code (4 : Nat) (Option.none : Option Jvm.ClassFile.FieldType)) ∈ lw_all := lw_g (lw_at lw_m1 106 rfl) rfl
theorem q219 : (Jvm.Cond.instanceMethod ({ cls := "java/util/ArrayList", name := "add", desc := "(Ljava/lang/Object;)Z" } : Jvm.MethodName)) ∈ lw_all := lw_g (lw_at lw_m1 156 rfl) rfl
theorem q220 : (Jvm.Cond.selects "java/util/ArrayList" ({ cls := "java/util/ArrayList", name := "add", desc := "(Ljava/lang/Object;)Z" } : Jvm.MethodName) ({ cls := "java/util/ArrayList", name := "add", desc := "(Ljava/lang/Object;)Z" } : Jvm.MethodName)) ∈ lw_all := lw_g (lw_at lw_m1 157 rfl) rfl
theorem q221 : (Jvm.Cond.code ({ cls := "java/util/ArrayList", name := "add", desc := "(Ljava/lang/Object;)Z" } : Jvm.MethodName) prog_45_method_25_code (2 : Nat) (Option.some Jvm.ClassFile.FieldType.boolean)) ∈ lw_all := lw_g (lw_at lw_m1 158 rfl) rfl
theorem q222 : (Jvm.Cond.methodLink "java/util/ArrayList" (131 : Nat) ({ cls := "java/util/ArrayList", name := "add", desc := "(Ljava/lang/Object;[Ljava/lang/Object;I)V" } : Jvm.MethodName)) ∈ lw_all := lw_g (lw_at lw_m1 159 rfl) rfl
theorem q223 : (Jvm.Cond.privateMethod ({ cls := "java/util/ArrayList", name := "add", desc := "(Ljava/lang/Object;[Ljava/lang/Object;I)V" } : Jvm.MethodName)) ∈ lw_tbl := lw_at lw_m1 160 rfl
theorem q224 : (Jvm.Cond.instanceMethod ({ cls := "java/util/ArrayList", name := "add", desc := "(Ljava/lang/Object;[Ljava/lang/Object;I)V" } : Jvm.MethodName)) ∈ lw_all := lw_g (lw_at lw_m1 161 rfl) rfl
theorem q225 : (Jvm.Cond.code ({ cls := "java/util/ArrayList", name := "add", desc := "(Ljava/lang/Object;[Ljava/lang/Object;I)V" } : Jvm.MethodName) prog_45_method_24_code (4 : Nat) (Option.none : Option Jvm.ClassFile.FieldType)) ∈ lw_all := lw_g (lw_at lw_m1 162 rfl) rfl
theorem q226 : (Jvm.Cond.methodLink "java/util/ArrayList" (129 : Nat) ({ cls := "java/util/ArrayList", name := "grow", desc := "()[Ljava/lang/Object;" } : Jvm.MethodName)) ∈ lw_all := lw_g (lw_at lw_m1 163 rfl) rfl
theorem q227 : (Jvm.Cond.privateMethod ({ cls := "java/util/ArrayList", name := "grow", desc := "()[Ljava/lang/Object;" } : Jvm.MethodName)) ∈ lw_tbl := lw_at lw_m1 164 rfl
theorem q228 : (Jvm.Cond.instanceMethod ({ cls := "java/util/ArrayList", name := "grow", desc := "()[Ljava/lang/Object;" } : Jvm.MethodName)) ∈ lw_all := lw_g (lw_at lw_m1 165 rfl) rfl
theorem q229 : (Jvm.Cond.code ({ cls := "java/util/ArrayList", name := "grow", desc := "()[Ljava/lang/Object;" } : Jvm.MethodName) prog_45_method_7_code (1 : Nat) (Option.some (Jvm.ClassFile.FieldType.array (Jvm.ClassFile.FieldType.object "java/lang/Object")))) ∈ lw_all := lw_g (lw_at lw_m1 166 rfl) rfl
theorem q230 : (Jvm.Cond.methodLink "java/util/ArrayList" (69 : Nat) ({ cls := "java/util/ArrayList", name := "grow", desc := "(I)[Ljava/lang/Object;" } : Jvm.MethodName)) ∈ lw_all := lw_g (lw_at lw_m1 167 rfl) rfl
theorem q231 : (Jvm.Cond.privateMethod ({ cls := "java/util/ArrayList", name := "grow", desc := "(I)[Ljava/lang/Object;" } : Jvm.MethodName)) ∈ lw_tbl := lw_at lw_m1 168 rfl
theorem q232 : (Jvm.Cond.instanceMethod ({ cls := "java/util/ArrayList", name := "grow", desc := "(I)[Ljava/lang/Object;" } : Jvm.MethodName)) ∈ lw_all := lw_g (lw_at lw_m1 169 rfl) rfl
theorem q233 : (Jvm.Cond.code ({ cls := "java/util/ArrayList", name := "grow", desc := "(I)[Ljava/lang/Object;" } : Jvm.MethodName) prog_45_method_6_code (4 : Nat) (Option.some (Jvm.ClassFile.FieldType.array (Jvm.ClassFile.FieldType.object "java/lang/Object")))) ∈ lw_all := lw_g (lw_at lw_m1 170 rfl) rfl
theorem q234 : (Jvm.Cond.methodLink "java/util/ArrayList" (73 : Nat) ({ cls := "jdk/internal/util/ArraysSupport", name := "newLength", desc := "(III)I" } : Jvm.MethodName)) ∈ lw_all := lw_g (lw_at lw_m1 171 rfl) rfl
theorem q244 : (Jvm.Cond.methodLink "java/util/ArrayList" (66 : Nat) ({ cls := "java/util/Arrays", name := "copyOf", desc := "([Ljava/lang/Object;I)[Ljava/lang/Object;" } : Jvm.MethodName)) ∈ lw_all := lw_g (lw_at lw_m1 181 rfl) rfl
theorem q272 : (Jvm.Cond.selects "java/util/ArrayList" ({ cls := "java/lang/Object", name := "getClass", desc := "()Ljava/lang/Class;" } : Jvm.MethodName) ({ cls := "java/lang/Object", name := "getClass", desc := "()Ljava/lang/Class;" } : Jvm.MethodName)) ∈ lw_all := lw_g (lw_at lw_m1 209 rfl) rfl
theorem q287 : (Jvm.Cond.methodLink "java/util/ArrayList" (79 : Nat) ({ cls := "java/lang/Math", name := "max", desc := "(II)I" } : Jvm.MethodName)) ∈ lw_all := lw_g (lw_at lw_m1 224 rfl) rfl
theorem q288 : (Jvm.Cond.classLink "java/util/ArrayList" (7 : Nat) "java/lang/Object") ∈ lw_all := lw_g (lw_at lw_m1 225 rfl) rfl
theorem q399 : (Jvm.Cond.instanceMethod ({ cls := "java/util/ArrayList", name := "size", desc := "()I" } : Jvm.MethodName)) ∈ lw_all := lw_g (lw_at lw_m2 96 rfl) rfl
theorem q400 : (Jvm.Cond.selects "java/util/ArrayList" ({ cls := "java/util/ArrayList", name := "size", desc := "()I" } : Jvm.MethodName) ({ cls := "java/util/ArrayList", name := "size", desc := "()I" } : Jvm.MethodName)) ∈ lw_all := lw_g (lw_at lw_m2 97 rfl) rfl
theorem q401 : (Jvm.Cond.code ({ cls := "java/util/ArrayList", name := "size", desc := "()I" } : Jvm.MethodName) prog_45_method_8_code (1 : Nat) (Option.some Jvm.ClassFile.FieldType.int)) ∈ lw_all := lw_g (lw_at lw_m2 98 rfl) rfl
theorem q419 : (Jvm.Cond.instanceMethod ({ cls := "java/util/ArrayList", name := "get", desc := "(I)Ljava/lang/Object;" } : Jvm.MethodName)) ∈ lw_all := lw_g (lw_at lw_m2 116 rfl) rfl
theorem q420 : (Jvm.Cond.selects "java/util/ArrayList" ({ cls := "java/util/ArrayList", name := "get", desc := "(I)Ljava/lang/Object;" } : Jvm.MethodName) ({ cls := "java/util/ArrayList", name := "get", desc := "(I)Ljava/lang/Object;" } : Jvm.MethodName)) ∈ lw_all := lw_g (lw_at lw_m2 117 rfl) rfl
theorem q421 : (Jvm.Cond.code ({ cls := "java/util/ArrayList", name := "get", desc := "(I)Ljava/lang/Object;" } : Jvm.MethodName) prog_45_method_20_code (2 : Nat) (Option.some (Jvm.ClassFile.FieldType.object "java/lang/Object"))) ∈ lw_all := lw_g (lw_at lw_m2 118 rfl) rfl
theorem q422 : (Jvm.Cond.methodLink "java/util/ArrayList" (118 : Nat) ({ cls := "java/util/Objects", name := "checkIndex", desc := "(II)I" } : Jvm.MethodName)) ∈ lw_all := lw_g (lw_at lw_m2 119 rfl) rfl
theorem q428 : (Jvm.Cond.methodLink "java/util/ArrayList" (123 : Nat) ({ cls := "java/util/ArrayList", name := "elementData", desc := "(I)Ljava/lang/Object;" } : Jvm.MethodName)) ∈ lw_all := lw_g (lw_at lw_m2 125 rfl) rfl
theorem q429 : (Jvm.Cond.instanceMethod ({ cls := "java/util/ArrayList", name := "elementData", desc := "(I)Ljava/lang/Object;" } : Jvm.MethodName)) ∈ lw_all := lw_g (lw_at lw_m2 126 rfl) rfl
theorem q430 : (Jvm.Cond.selects "java/util/ArrayList" ({ cls := "java/util/ArrayList", name := "elementData", desc := "(I)Ljava/lang/Object;" } : Jvm.MethodName) ({ cls := "java/util/ArrayList", name := "elementData", desc := "(I)Ljava/lang/Object;" } : Jvm.MethodName)) ∈ lw_all := lw_g (lw_at lw_m2 127 rfl) rfl
theorem q431 : (Jvm.Cond.code ({ cls := "java/util/ArrayList", name := "elementData", desc := "(I)Ljava/lang/Object;" } : Jvm.MethodName) prog_45_method_18_code (2 : Nat) (Option.some (Jvm.ClassFile.FieldType.object "java/lang/Object"))) ∈ lw_all := lw_g (lw_at lw_m2 128 rfl) rfl
theorem q531 : (Jvm.Cond.instanceMethod ({ cls := "java/util/ArrayList", name := "set", desc := "(ILjava/lang/Object;)Ljava/lang/Object;" } : Jvm.MethodName)) ∈ lw_all := lw_g (lw_at lw_m2 228 rfl) rfl
theorem q532 : (Jvm.Cond.selects "java/util/ArrayList" ({ cls := "java/util/ArrayList", name := "set", desc := "(ILjava/lang/Object;)Ljava/lang/Object;" } : Jvm.MethodName) ({ cls := "java/util/ArrayList", name := "set", desc := "(ILjava/lang/Object;)Ljava/lang/Object;" } : Jvm.MethodName)) ∈ lw_all := lw_g (lw_at lw_m2 229 rfl) rfl
theorem q533 : (Jvm.Cond.code ({ cls := "java/util/ArrayList", name := "set", desc := "(ILjava/lang/Object;)Ljava/lang/Object;" } : Jvm.MethodName) prog_45_method_23_code (4 : Nat) (Option.some (Jvm.ClassFile.FieldType.object "java/lang/Object"))) ∈ lw_all := lw_g (lw_at lw_m2 230 rfl) rfl
theorem q535 : (Jvm.Cond.instanceMethod ({ cls := "java/util/ArrayList", name := "remove", desc := "(I)Ljava/lang/Object;" } : Jvm.MethodName)) ∈ lw_all := lw_g (lw_at lw_m2 232 rfl) rfl
theorem q536 : (Jvm.Cond.selects "java/util/ArrayList" ({ cls := "java/util/ArrayList", name := "remove", desc := "(I)Ljava/lang/Object;" } : Jvm.MethodName) ({ cls := "java/util/ArrayList", name := "remove", desc := "(I)Ljava/lang/Object;" } : Jvm.MethodName)) ∈ lw_all := lw_g (lw_at lw_m2 233 rfl) rfl
theorem q537 : (Jvm.Cond.code ({ cls := "java/util/ArrayList", name := "remove", desc := "(I)Ljava/lang/Object;" } : Jvm.MethodName) prog_45_method_29_code (4 : Nat) (Option.some (Jvm.ClassFile.FieldType.object "java/lang/Object"))) ∈ lw_all := lw_g (lw_at lw_m2 234 rfl) rfl
theorem q538 : (Jvm.Cond.methodLink "java/util/ArrayList" (144 : Nat) ({ cls := "java/util/ArrayList", name := "fastRemove", desc := "([Ljava/lang/Object;I)V" } : Jvm.MethodName)) ∈ lw_all := lw_g (lw_at lw_m2 235 rfl) rfl
theorem q539 : (Jvm.Cond.privateMethod ({ cls := "java/util/ArrayList", name := "fastRemove", desc := "([Ljava/lang/Object;I)V" } : Jvm.MethodName)) ∈ lw_tbl := lw_at lw_m2 236 rfl
theorem q540 : (Jvm.Cond.instanceMethod ({ cls := "java/util/ArrayList", name := "fastRemove", desc := "([Ljava/lang/Object;I)V" } : Jvm.MethodName)) ∈ lw_all := lw_g (lw_at lw_m2 237 rfl) rfl
theorem q541 : (Jvm.Cond.code ({ cls := "java/util/ArrayList", name := "fastRemove", desc := "([Ljava/lang/Object;I)V" } : Jvm.MethodName) prog_45_method_39_code (4 : Nat) (Option.none : Option Jvm.ClassFile.FieldType)) ∈ lw_all := lw_g (lw_at lw_m2 238 rfl) rfl
theorem q542 : (Jvm.Cond.methodLink "java/util/ArrayList" (112 : Nat) ({ cls := "java/lang/System", name := "arraycopy", desc := "(Ljava/lang/Object;ILjava/lang/Object;II)V" } : Jvm.MethodName)) ∈ lw_all := lw_g (lw_at lw_m2 239 rfl) rfl
theorem q544 : (Jvm.Cond.instanceMethod ({ cls := "java/util/ArrayList", name := "isEmpty", desc := "()Z" } : Jvm.MethodName)) ∈ lw_all := lw_g (lw_at lw_m3 1 rfl) rfl
theorem q545 : (Jvm.Cond.selects "java/util/ArrayList" ({ cls := "java/util/ArrayList", name := "isEmpty", desc := "()Z" } : Jvm.MethodName) ({ cls := "java/util/ArrayList", name := "isEmpty", desc := "()Z" } : Jvm.MethodName)) ∈ lw_all := lw_g (lw_at lw_m3 2 rfl) rfl
theorem q546 : (Jvm.Cond.code ({ cls := "java/util/ArrayList", name := "isEmpty", desc := "()Z" } : Jvm.MethodName) prog_45_method_9_code (1 : Nat) (Option.some Jvm.ClassFile.FieldType.boolean)) ∈ lw_all := lw_g (lw_at lw_m3 3 rfl) rfl
theorem q568 : (Jvm.Cond.instanceMethod ({ cls := "java/util/ArrayList", name := "addAll", desc := "(Ljava/util/Collection;)Z" } : Jvm.MethodName)) ∈ lw_all := lw_g (lw_at lw_m3 25 rfl) rfl
theorem q569 : (Jvm.Cond.selects "java/util/ArrayList" ({ cls := "java/util/ArrayList", name := "addAll", desc := "(Ljava/util/Collection;)Z" } : Jvm.MethodName) ({ cls := "java/util/ArrayList", name := "addAll", desc := "(Ljava/util/Collection;)Z" } : Jvm.MethodName)) ∈ lw_all := lw_g (lw_at lw_m3 26 rfl) rfl
theorem q570 : (Jvm.Cond.code ({ cls := "java/util/ArrayList", name := "addAll", desc := "(Ljava/util/Collection;)Z" } : Jvm.MethodName) prog_45_method_41_code (6 : Nat) (Option.some Jvm.ClassFile.FieldType.boolean)) ∈ lw_all := lw_g (lw_at lw_m3 27 rfl) rfl
theorem q571 : (Jvm.Cond.interfaceEntry "java/util/ArrayList" (42 : Nat)) ∈ lw_tbl := lw_at lw_m3 28 rfl
theorem q572 : (Jvm.Cond.methodLink "java/util/ArrayList" (42 : Nat) ({ cls := "java/util/Collection", name := "toArray", desc := "()[Ljava/lang/Object;" } : Jvm.MethodName)) ∈ lw_all := lw_g (lw_at lw_m3 29 rfl) rfl
theorem q575 : (Jvm.Cond.castable "java/util/ArrayList" "java/util/Collection") ∈ lw_tbl := lw_at lw_m3 32 rfl
theorem q576 : (Jvm.Cond.selects "java/util/ArrayList" ({ cls := "java/util/Collection", name := "toArray", desc := "()[Ljava/lang/Object;" } : Jvm.MethodName) ({ cls := "java/util/ArrayList", name := "toArray", desc := "()[Ljava/lang/Object;" } : Jvm.MethodName)) ∈ lw_all := lw_g (lw_at lw_m3 33 rfl) rfl
theorem q577 : (Jvm.Cond.unhidden "java/util/ArrayList" "toArray" "()[Ljava/lang/Object;") ∈ lw_tbl := lw_at lw_m3 34 rfl
theorem q578 : (Jvm.Cond.instanceMethod ({ cls := "java/util/ArrayList", name := "toArray", desc := "()[Ljava/lang/Object;" } : Jvm.MethodName)) ∈ lw_all := lw_g (lw_at lw_m3 35 rfl) rfl
theorem q579 : (Jvm.Cond.publicMethod ({ cls := "java/util/ArrayList", name := "toArray", desc := "()[Ljava/lang/Object;" } : Jvm.MethodName)) ∈ lw_tbl := lw_at lw_m3 36 rfl
theorem q580 : (Jvm.Cond.code ({ cls := "java/util/ArrayList", name := "toArray", desc := "()[Ljava/lang/Object;" } : Jvm.MethodName) prog_45_method_16_code (1 : Nat) (Option.some (Jvm.ClassFile.FieldType.array (Jvm.ClassFile.FieldType.object "java/lang/Object")))) ∈ lw_all := lw_g (lw_at lw_m3 37 rfl) rfl
theorem q1445 : (Jvm.Cond.instanceMethod ({ cls := "java/util/ArrayList", name := "iterator", desc := "()Ljava/util/Iterator;" } : Jvm.MethodName)) ∈ lw_all := lw_g (lw_at lw_m6 182 rfl) rfl
theorem q1446 : (Jvm.Cond.selects "java/util/ArrayList" ({ cls := "java/util/ArrayList", name := "iterator", desc := "()Ljava/util/Iterator;" } : Jvm.MethodName) ({ cls := "java/util/ArrayList", name := "iterator", desc := "()Ljava/util/Iterator;" } : Jvm.MethodName)) ∈ lw_all := lw_g (lw_at lw_m6 183 rfl) rfl
theorem q1447 : (Jvm.Cond.code ({ cls := "java/util/ArrayList", name := "iterator", desc := "()Ljava/util/Iterator;" } : Jvm.MethodName) prog_45_method_55_code (1 : Nat) (Option.some (Jvm.ClassFile.FieldType.object "java/util/Iterator"))) ∈ lw_all := lw_g (lw_at lw_m6 184 rfl) rfl
theorem q1448 : (Jvm.Cond.classLink "java/util/ArrayList" (267 : Nat) "java/util/ArrayList$Itr") ∈ lw_all := lw_g (lw_at lw_m6 185 rfl) rfl
theorem q1450 : (Jvm.Cond.methodLink "java/util/ArrayList" (269 : Nat) ({ cls := "java/util/ArrayList$Itr", name := "<init>", desc := "(Ljava/util/ArrayList;)V" } : Jvm.MethodName)) ∈ lw_all := lw_g (lw_at lw_m6 187 rfl) rfl
theorem q1511 : (Jvm.Cond.instanceMethod ({ cls := "java/util/ArrayList", name := "contains", desc := "(Ljava/lang/Object;)Z" } : Jvm.MethodName)) ∈ lw_all := lw_g (lw_at lw_m7 8 rfl) rfl
theorem q1512 : (Jvm.Cond.selects "java/util/ArrayList" ({ cls := "java/util/ArrayList", name := "contains", desc := "(Ljava/lang/Object;)Z" } : Jvm.MethodName) ({ cls := "java/util/ArrayList", name := "contains", desc := "(Ljava/lang/Object;)Z" } : Jvm.MethodName)) ∈ lw_all := lw_g (lw_at lw_m7 9 rfl) rfl
theorem q1513 : (Jvm.Cond.code ({ cls := "java/util/ArrayList", name := "contains", desc := "(Ljava/lang/Object;)Z" } : Jvm.MethodName) prog_45_method_10_code (2 : Nat) (Option.some Jvm.ClassFile.FieldType.boolean)) ∈ lw_all := lw_g (lw_at lw_m7 10 rfl) rfl
theorem q1514 : (Jvm.Cond.methodLink "java/util/ArrayList" (85 : Nat) ({ cls := "java/util/ArrayList", name := "indexOf", desc := "(Ljava/lang/Object;)I" } : Jvm.MethodName)) ∈ lw_all := lw_g (lw_at lw_m7 11 rfl) rfl
theorem q1515 : (Jvm.Cond.instanceMethod ({ cls := "java/util/ArrayList", name := "indexOf", desc := "(Ljava/lang/Object;)I" } : Jvm.MethodName)) ∈ lw_all := lw_g (lw_at lw_m7 12 rfl) rfl
theorem q1516 : (Jvm.Cond.selects "java/util/ArrayList" ({ cls := "java/util/ArrayList", name := "indexOf", desc := "(Ljava/lang/Object;)I" } : Jvm.MethodName) ({ cls := "java/util/ArrayList", name := "indexOf", desc := "(Ljava/lang/Object;)I" } : Jvm.MethodName)) ∈ lw_all := lw_g (lw_at lw_m7 13 rfl) rfl
theorem q1517 : (Jvm.Cond.code ({ cls := "java/util/ArrayList", name := "indexOf", desc := "(Ljava/lang/Object;)I" } : Jvm.MethodName) prog_45_method_11_code (2 : Nat) (Option.some Jvm.ClassFile.FieldType.int)) ∈ lw_all := lw_g (lw_at lw_m7 14 rfl) rfl
theorem q1518 : (Jvm.Cond.methodLink "java/util/ArrayList" (89 : Nat) ({ cls := "java/util/ArrayList", name := "indexOfRange", desc := "(Ljava/lang/Object;II)I" } : Jvm.MethodName)) ∈ lw_all := lw_g (lw_at lw_m7 15 rfl) rfl
theorem q1519 : (Jvm.Cond.instanceMethod ({ cls := "java/util/ArrayList", name := "indexOfRange", desc := "(Ljava/lang/Object;II)I" } : Jvm.MethodName)) ∈ lw_all := lw_g (lw_at lw_m7 16 rfl) rfl
theorem q1520 : (Jvm.Cond.selects "java/util/ArrayList" ({ cls := "java/util/ArrayList", name := "indexOfRange", desc := "(Ljava/lang/Object;II)I" } : Jvm.MethodName) ({ cls := "java/util/ArrayList", name := "indexOfRange", desc := "(Ljava/lang/Object;II)I" } : Jvm.MethodName)) ∈ lw_all := lw_g (lw_at lw_m7 17 rfl) rfl
theorem q1521 : (Jvm.Cond.code ({ cls := "java/util/ArrayList", name := "indexOfRange", desc := "(Ljava/lang/Object;II)I" } : Jvm.MethodName) prog_45_method_12_code (6 : Nat) (Option.some Jvm.ClassFile.FieldType.int)) ∈ lw_all := lw_g (lw_at lw_m7 18 rfl) rfl
theorem q1523 : (Jvm.Cond.methodLink "java/util/ArrayList" (93 : Nat) ({ cls := "java/lang/Object", name := "equals", desc := "(Ljava/lang/Object;)Z" } : Jvm.MethodName)) ∈ lw_all := lw_g (lw_at lw_m7 20 rfl) rfl
theorem q1766 : (Jvm.Cond.instanceMethod ({ cls := "java/util/ArrayList", name := "<init>", desc := "(Ljava/util/Collection;)V" } : Jvm.MethodName)) ∈ lw_all := lw_g (lw_at lw_m8 23 rfl) rfl
theorem q1767 : (Jvm.Cond.code ({ cls := "java/util/ArrayList", name := "<init>", desc := "(Ljava/util/Collection;)V" } : Jvm.MethodName) prog_45_method_3_code (3 : Nat) (Option.none : Option Jvm.ClassFile.FieldType)) ∈ lw_all := lw_g (lw_at lw_m8 24 rfl) rfl
theorem q1768 : (Jvm.Cond.interfaceEntry "java/util/ArrayList" (52 : Nat)) ∈ lw_tbl := lw_at lw_m8 25 rfl
theorem q1769 : (Jvm.Cond.methodLink "java/util/ArrayList" (52 : Nat) ({ cls := "java/util/Collection", name := "getClass", desc := "()Ljava/lang/Class;" } : Jvm.MethodName)) ∈ lw_all := lw_g (lw_at lw_m8 26 rfl) rfl
theorem q1772 : (Jvm.Cond.unhidden "java/util/ArrayList" "getClass" "()Ljava/lang/Class;") ∈ lw_tbl := lw_at lw_m8 29 rfl
theorem q1774 : (Jvm.Cond.classLink "java/util/ArrayList" (10 : Nat) "java/util/ArrayList") ∈ lw_all := lw_g (lw_at lw_m8 31 rfl) rfl
theorem q1775 : (Jvm.Cond.classLink "java/util/ArrayList" (56 : Nat) "[Ljava/lang/Object;") ∈ lw_all := lw_g (lw_at lw_m8 32 rfl) rfl
theorem q1776 : (Jvm.Cond.methodLink "java/util/ArrayList" (57 : Nat) ({ cls := "java/util/Arrays", name := "copyOf", desc := "([Ljava/lang/Object;ILjava/lang/Class;)[Ljava/lang/Object;" } : Jvm.MethodName)) ∈ lw_all := lw_g (lw_at lw_m8 33 rfl) rfl
theorem q1777 : (Jvm.Cond.fieldLink "java/util/ArrayList" (15 : Nat) "java/util/ArrayList" "EMPTY_ELEMENTDATA" "[Ljava/lang/Object;") ∈ lw_all := lw_g (lw_at lw_m8 34 rfl) rfl
theorem q1778 : (Jvm.Cond.laysStatic "java/util/ArrayList" "EMPTY_ELEMENTDATA" "[Ljava/lang/Object;") ∈ lw_tbl := lw_at lw_m8 35 rfl
theorem q2066 : (Jvm.Cond.castable "java/util/ArrayList" "java/lang/Object") ∈ lw_tbl := lw_at lw_m9 83 rfl
theorem in_J2 : ∀ w ∈ wsJ20, w ∈ lw_all := lw_in wsJ20 [159, 155, 157] (by decide +kernel) (by decide +kernel)
/-! jdk/internal/util/ArraysSupport -/
set_option maxRecDepth 100000
def RJ3 : String := "jdk/internal/util/ArraysSupport"
abbrev cJ3_newLength : ByteArray := prog_54_method_27_code
def yJ3_newLength : MethodName := ⟨RJ3, "newLength", "(III)I"⟩
def dkwJ3_newLength_1 : List UInt8 := [184, 0, 201, 172]
abbrev dktJ3_newLength_1 : List UInt8 := dkwJ3_newLength_1 ++ []
def dkwJ3_newLength_0 : List UInt8 := [26, 27, 28, 184, 0, 194, 96, 62, 3, 29, 162, 0, 11, 29, 18, 200, 163, 0, 5, 29, 172, 26, 27]
abbrev dktJ3_newLength_0 : List UInt8 := dkwJ3_newLength_0 ++ dktJ3_newLength_1
theorem dksJ3_newLength_0 : cJ3_newLength.data.toList.drop 0 = dktJ3_newLength_0 := by decide +kernel
theorem dksJ3_newLength_1 : cJ3_newLength.data.toList.drop 23 = dktJ3_newLength_1 := dk_seg dksJ3_newLength_0 23 rfl rfl
theorem dJ3_newLength_0 : decode cJ3_newLength 0 = .ok (.iload_n 0, 1) := dk_26 (dk_at dksJ3_newLength_0 0 rfl rfl)
theorem dJ3_newLength_1 : decode cJ3_newLength 1 = .ok (.iload_n 1, 1) := dk_27 (dk_at dksJ3_newLength_0 1 rfl rfl)
theorem dJ3_newLength_2 : decode cJ3_newLength 2 = .ok (.iload_n 2, 1) := dk_28 (dk_at dksJ3_newLength_0 2 rfl rfl)
theorem dJ3_newLength_3 : decode cJ3_newLength 3 = .ok (.invokestatic 194, 3) := dk_184 0 194 (dk_at dksJ3_newLength_0 3 rfl rfl)
theorem dJ3_newLength_6 : decode cJ3_newLength 6 = .ok (.iadd, 1) := dk_96 (dk_at dksJ3_newLength_0 6 rfl rfl)
theorem dJ3_newLength_7 : decode cJ3_newLength 7 = .ok (.istore_n 3, 1) := dk_62 (dk_at dksJ3_newLength_0 7 rfl rfl)
theorem dJ3_newLength_8 : decode cJ3_newLength 8 = .ok (.iconst 0, 1) := dk_3 (dk_at dksJ3_newLength_0 8 rfl rfl)
theorem dJ3_newLength_9 : decode cJ3_newLength 9 = .ok (.iload_n 3, 1) := dk_29 (dk_at dksJ3_newLength_0 9 rfl rfl)
theorem dJ3_newLength_10 : decode cJ3_newLength 10 = .ok (.if_icmp .ge 11, 3) := dk_162 0 11 (dk_at dksJ3_newLength_0 10 rfl rfl)
theorem dJ3_newLength_13 : decode cJ3_newLength 13 = .ok (.iload_n 3, 1) := dk_29 (dk_at dksJ3_newLength_0 13 rfl rfl)
theorem dJ3_newLength_14 : decode cJ3_newLength 14 = .ok (.ldc 200, 2) := dk_18 200 (dk_at dksJ3_newLength_0 14 rfl rfl)
theorem dJ3_newLength_16 : decode cJ3_newLength 16 = .ok (.if_icmp .gt 5, 3) := dk_163 0 5 (dk_at dksJ3_newLength_0 16 rfl rfl)
theorem dJ3_newLength_19 : decode cJ3_newLength 19 = .ok (.iload_n 3, 1) := dk_29 (dk_at dksJ3_newLength_0 19 rfl rfl)
theorem dJ3_newLength_20 : decode cJ3_newLength 20 = .ok (.ireturn, 1) := dk_172 (dk_at dksJ3_newLength_0 20 rfl rfl)
theorem dJ3_newLength_21 : decode cJ3_newLength 21 = .ok (.iload_n 0, 1) := dk_26 (dk_at dksJ3_newLength_0 21 rfl rfl)
theorem dJ3_newLength_22 : decode cJ3_newLength 22 = .ok (.iload_n 1, 1) := dk_27 (dk_at dksJ3_newLength_0 22 rfl rfl)
theorem dJ3_newLength_23 : decode cJ3_newLength 23 = .ok (.invokestatic 201, 3) := dk_184 0 201 (dk_at dksJ3_newLength_1 0 rfl rfl)
theorem dJ3_newLength_26 : decode cJ3_newLength 26 = .ok (.ireturn, 1) := dk_172 (dk_at dksJ3_newLength_1 3 rfl rfl)
abbrev cJ3_hugeLength : ByteArray := prog_54_method_28_code
def yJ3_hugeLength : MethodName := ⟨RJ3, "hugeLength", "(II)I"⟩
def dkwJ3_hugeLength_2 : List UInt8 := [191, 28, 18, 200, 163, 0, 6, 18, 200, 172, 28, 172]
abbrev dktJ3_hugeLength_2 : List UInt8 := dkwJ3_hugeLength_2 ++ []
def dkwJ3_hugeLength_1 : List UInt8 := [26, 182, 0, 98, 18, 208, 182, 0, 94, 27, 182, 0, 98, 18, 210, 182, 0, 94, 182, 0, 101, 183, 0, 212]
abbrev dktJ3_hugeLength_1 : List UInt8 := dkwJ3_hugeLength_1 ++ dktJ3_hugeLength_2
def dkwJ3_hugeLength_0 : List UInt8 := [26, 27, 96, 61, 28, 156, 0, 44, 187, 0, 204, 89, 187, 0, 89, 89, 183, 0, 91, 18, 206, 182, 0, 94]
abbrev dktJ3_hugeLength_0 : List UInt8 := dkwJ3_hugeLength_0 ++ dktJ3_hugeLength_1
theorem dksJ3_hugeLength_0 : cJ3_hugeLength.data.toList.drop 0 = dktJ3_hugeLength_0 := by decide +kernel
theorem dksJ3_hugeLength_1 : cJ3_hugeLength.data.toList.drop 24 = dktJ3_hugeLength_1 := dk_seg dksJ3_hugeLength_0 24 rfl rfl
theorem dksJ3_hugeLength_2 : cJ3_hugeLength.data.toList.drop 48 = dktJ3_hugeLength_2 := dk_seg dksJ3_hugeLength_1 24 rfl rfl
theorem dJ3_hugeLength_0 : decode cJ3_hugeLength 0 = .ok (.iload_n 0, 1) := dk_26 (dk_at dksJ3_hugeLength_0 0 rfl rfl)
theorem dJ3_hugeLength_1 : decode cJ3_hugeLength 1 = .ok (.iload_n 1, 1) := dk_27 (dk_at dksJ3_hugeLength_0 1 rfl rfl)
theorem dJ3_hugeLength_2 : decode cJ3_hugeLength 2 = .ok (.iadd, 1) := dk_96 (dk_at dksJ3_hugeLength_0 2 rfl rfl)
theorem dJ3_hugeLength_3 : decode cJ3_hugeLength 3 = .ok (.istore_n 2, 1) := dk_61 (dk_at dksJ3_hugeLength_0 3 rfl rfl)
theorem dJ3_hugeLength_4 : decode cJ3_hugeLength 4 = .ok (.iload_n 2, 1) := dk_28 (dk_at dksJ3_hugeLength_0 4 rfl rfl)
theorem dJ3_hugeLength_5 : decode cJ3_hugeLength 5 = .ok (.ifCond .ge 44, 3) := dk_156 0 44 (dk_at dksJ3_hugeLength_0 5 rfl rfl)
theorem dJ3_hugeLength_8 : decode cJ3_hugeLength 8 = .ok (.new 204, 3) := dk_187 0 204 (dk_at dksJ3_hugeLength_0 8 rfl rfl)
theorem dJ3_hugeLength_11 : decode cJ3_hugeLength 11 = .ok (.dup, 1) := dk_89 (dk_at dksJ3_hugeLength_0 11 rfl rfl)
theorem dJ3_hugeLength_12 : decode cJ3_hugeLength 12 = .ok (.new 89, 3) := dk_187 0 89 (dk_at dksJ3_hugeLength_0 12 rfl rfl)
theorem dJ3_hugeLength_15 : decode cJ3_hugeLength 15 = .ok (.dup, 1) := dk_89 (dk_at dksJ3_hugeLength_0 15 rfl rfl)
theorem dJ3_hugeLength_16 : decode cJ3_hugeLength 16 = .ok (.invokespecial 91, 3) := dk_183 0 91 (dk_at dksJ3_hugeLength_0 16 rfl rfl)
theorem dJ3_hugeLength_19 : decode cJ3_hugeLength 19 = .ok (.ldc 206, 2) := dk_18 206 (dk_at dksJ3_hugeLength_0 19 rfl rfl)
theorem dJ3_hugeLength_21 : decode cJ3_hugeLength 21 = .ok (.invokevirtual 94, 3) := dk_182 0 94 (dk_at dksJ3_hugeLength_0 21 rfl rfl)
theorem dJ3_hugeLength_24 : decode cJ3_hugeLength 24 = .ok (.iload_n 0, 1) := dk_26 (dk_at dksJ3_hugeLength_1 0 rfl rfl)
theorem dJ3_hugeLength_25 : decode cJ3_hugeLength 25 = .ok (.invokevirtual 98, 3) := dk_182 0 98 (dk_at dksJ3_hugeLength_1 1 rfl rfl)
theorem dJ3_hugeLength_28 : decode cJ3_hugeLength 28 = .ok (.ldc 208, 2) := dk_18 208 (dk_at dksJ3_hugeLength_1 4 rfl rfl)
theorem dJ3_hugeLength_30 : decode cJ3_hugeLength 30 = .ok (.invokevirtual 94, 3) := dk_182 0 94 (dk_at dksJ3_hugeLength_1 6 rfl rfl)
theorem dJ3_hugeLength_33 : decode cJ3_hugeLength 33 = .ok (.iload_n 1, 1) := dk_27 (dk_at dksJ3_hugeLength_1 9 rfl rfl)
theorem dJ3_hugeLength_34 : decode cJ3_hugeLength 34 = .ok (.invokevirtual 98, 3) := dk_182 0 98 (dk_at dksJ3_hugeLength_1 10 rfl rfl)
theorem dJ3_hugeLength_37 : decode cJ3_hugeLength 37 = .ok (.ldc 210, 2) := dk_18 210 (dk_at dksJ3_hugeLength_1 13 rfl rfl)
theorem dJ3_hugeLength_39 : decode cJ3_hugeLength 39 = .ok (.invokevirtual 94, 3) := dk_182 0 94 (dk_at dksJ3_hugeLength_1 15 rfl rfl)
theorem dJ3_hugeLength_42 : decode cJ3_hugeLength 42 = .ok (.invokevirtual 101, 3) := dk_182 0 101 (dk_at dksJ3_hugeLength_1 18 rfl rfl)
theorem dJ3_hugeLength_45 : decode cJ3_hugeLength 45 = .ok (.invokespecial 212, 3) := dk_183 0 212 (dk_at dksJ3_hugeLength_1 21 rfl rfl)
theorem dJ3_hugeLength_48 : decode cJ3_hugeLength 48 = .ok (.athrow, 1) := dk_191 (dk_at dksJ3_hugeLength_2 0 rfl rfl)
theorem dJ3_hugeLength_49 : decode cJ3_hugeLength 49 = .ok (.iload_n 2, 1) := dk_28 (dk_at dksJ3_hugeLength_2 1 rfl rfl)
theorem dJ3_hugeLength_50 : decode cJ3_hugeLength 50 = .ok (.ldc 200, 2) := dk_18 200 (dk_at dksJ3_hugeLength_2 2 rfl rfl)
theorem dJ3_hugeLength_52 : decode cJ3_hugeLength 52 = .ok (.if_icmp .gt 6, 3) := dk_163 0 6 (dk_at dksJ3_hugeLength_2 4 rfl rfl)
theorem dJ3_hugeLength_55 : decode cJ3_hugeLength 55 = .ok (.ldc 200, 2) := dk_18 200 (dk_at dksJ3_hugeLength_2 7 rfl rfl)
theorem dJ3_hugeLength_57 : decode cJ3_hugeLength 57 = .ok (.ireturn, 1) := dk_172 (dk_at dksJ3_hugeLength_2 9 rfl rfl)
theorem dJ3_hugeLength_58 : decode cJ3_hugeLength 58 = .ok (.iload_n 2, 1) := dk_28 (dk_at dksJ3_hugeLength_2 10 rfl rfl)
theorem dJ3_hugeLength_59 : decode cJ3_hugeLength 59 = .ok (.ireturn, 1) := dk_172 (dk_at dksJ3_hugeLength_2 11 rfl rfl)
theorem q72 : (Jvm.Cond.initialized "jdk/internal/util/ArraysSupport") ∈ lw_all := lw_g (lw_at lw_m1 9 rfl) rfl
theorem q235 : (Jvm.Cond.static ({ cls := "jdk/internal/util/ArraysSupport", name := "newLength", desc := "(III)I" } : Jvm.MethodName)) ∈ lw_all := lw_g (lw_at lw_m1 172 rfl) rfl
theorem q236 : (Jvm.Cond.code ({ cls := "jdk/internal/util/ArraysSupport", name := "newLength", desc := "(III)I" } : Jvm.MethodName) prog_54_method_27_code (4 : Nat) (Option.some Jvm.ClassFile.FieldType.int)) ∈ lw_all := lw_g (lw_at lw_m1 173 rfl) rfl
theorem q237 : (Jvm.Cond.methodLink "jdk/internal/util/ArraysSupport" (194 : Nat) ({ cls := "java/lang/Math", name := "max", desc := "(II)I" } : Jvm.MethodName)) ∈ lw_all := lw_g (lw_at lw_m1 174 rfl) rfl
theorem q240 : (Jvm.Cond.constant "jdk/internal/util/ArraysSupport" (200 : Nat) (2147483639 : Int32)) ∈ lw_all := lw_g (lw_at lw_m1 177 rfl) rfl
theorem q241 : (Jvm.Cond.methodLink "jdk/internal/util/ArraysSupport" (201 : Nat) ({ cls := "jdk/internal/util/ArraysSupport", name := "hugeLength", desc := "(II)I" } : Jvm.MethodName)) ∈ lw_all := lw_g (lw_at lw_m1 178 rfl) rfl
theorem q242 : (Jvm.Cond.static ({ cls := "jdk/internal/util/ArraysSupport", name := "hugeLength", desc := "(II)I" } : Jvm.MethodName)) ∈ lw_all := lw_g (lw_at lw_m1 179 rfl) rfl
theorem q243 : (Jvm.Cond.code ({ cls := "jdk/internal/util/ArraysSupport", name := "hugeLength", desc := "(II)I" } : Jvm.MethodName) prog_54_method_28_code (3 : Nat) (Option.some Jvm.ClassFile.FieldType.int)) ∈ lw_all := lw_g (lw_at lw_m1 180 rfl) rfl
/-! java/lang/Math -/
set_option maxRecDepth 100000
def RJ4 : String := "java/lang/Math"
abbrev cJ4_max : ByteArray := prog_32_method_65_code
def yJ4_max : MethodName := ⟨RJ4, "max", "(II)I"⟩
def dkwJ4_max_0 : List UInt8 := [26, 27, 161, 0, 7, 26, 167, 0, 4, 27, 172]
abbrev dktJ4_max_0 : List UInt8 := dkwJ4_max_0 ++ []
theorem dksJ4_max_0 : cJ4_max.data.toList.drop 0 = dktJ4_max_0 := by decide +kernel
theorem dJ4_max_0 : decode cJ4_max 0 = .ok (.iload_n 0, 1) := dk_26 (dk_at dksJ4_max_0 0 rfl rfl)
theorem dJ4_max_1 : decode cJ4_max 1 = .ok (.iload_n 1, 1) := dk_27 (dk_at dksJ4_max_0 1 rfl rfl)
theorem dJ4_max_2 : decode cJ4_max 2 = .ok (.if_icmp .lt 7, 3) := dk_161 0 7 (dk_at dksJ4_max_0 2 rfl rfl)
theorem dJ4_max_5 : decode cJ4_max 5 = .ok (.iload_n 0, 1) := dk_26 (dk_at dksJ4_max_0 5 rfl rfl)
theorem dJ4_max_6 : decode cJ4_max 6 = .ok (.goto 4, 3) := dk_167 0 4 (dk_at dksJ4_max_0 6 rfl rfl)
theorem dJ4_max_9 : decode cJ4_max 9 = .ok (.iload_n 1, 1) := dk_27 (dk_at dksJ4_max_0 9 rfl rfl)
theorem dJ4_max_10 : decode cJ4_max 10 = .ok (.ireturn, 1) := dk_172 (dk_at dksJ4_max_0 10 rfl rfl)
abbrev cJ4_min : ByteArray := prog_32_method_69_code
def yJ4_min : MethodName := ⟨RJ4, "min", "(II)I"⟩
def dkwJ4_min_0 : List UInt8 := [26, 27, 163, 0, 7, 26, 167, 0, 4, 27, 172]
abbrev dktJ4_min_0 : List UInt8 := dkwJ4_min_0 ++ []
theorem dksJ4_min_0 : cJ4_min.data.toList.drop 0 = dktJ4_min_0 := by decide +kernel
theorem dJ4_min_0 : decode cJ4_min 0 = .ok (.iload_n 0, 1) := dk_26 (dk_at dksJ4_min_0 0 rfl rfl)
theorem dJ4_min_1 : decode cJ4_min 1 = .ok (.iload_n 1, 1) := dk_27 (dk_at dksJ4_min_0 1 rfl rfl)
theorem dJ4_min_2 : decode cJ4_min 2 = .ok (.if_icmp .gt 7, 3) := dk_163 0 7 (dk_at dksJ4_min_0 2 rfl rfl)
theorem dJ4_min_5 : decode cJ4_min 5 = .ok (.iload_n 0, 1) := dk_26 (dk_at dksJ4_min_0 5 rfl rfl)
theorem dJ4_min_6 : decode cJ4_min 6 = .ok (.goto 4, 3) := dk_167 0 4 (dk_at dksJ4_min_0 6 rfl rfl)
theorem dJ4_min_9 : decode cJ4_min 9 = .ok (.iload_n 1, 1) := dk_27 (dk_at dksJ4_min_0 9 rfl rfl)
theorem dJ4_min_10 : decode cJ4_min 10 = .ok (.ireturn, 1) := dk_172 (dk_at dksJ4_min_0 10 rfl rfl)
theorem q73 : (Jvm.Cond.initialized "java/lang/Math") ∈ lw_all := lw_g (lw_at lw_m1 10 rfl) rfl
theorem q238 : (Jvm.Cond.static ({ cls := "java/lang/Math", name := "max", desc := "(II)I" } : Jvm.MethodName)) ∈ lw_all := lw_g (lw_at lw_m1 175 rfl) rfl
theorem q239 : (Jvm.Cond.code ({ cls := "java/lang/Math", name := "max", desc := "(II)I" } : Jvm.MethodName) prog_32_method_65_code (2 : Nat) (Option.some Jvm.ClassFile.FieldType.int)) ∈ lw_all := lw_g (lw_at lw_m1 176 rfl) rfl
theorem q282 : (Jvm.Cond.static ({ cls := "java/lang/Math", name := "min", desc := "(II)I" } : Jvm.MethodName)) ∈ lw_all := lw_g (lw_at lw_m1 219 rfl) rfl
theorem q283 : (Jvm.Cond.code ({ cls := "java/lang/Math", name := "min", desc := "(II)I" } : Jvm.MethodName) prog_32_method_69_code (2 : Nat) (Option.some Jvm.ClassFile.FieldType.int)) ∈ lw_all := lw_g (lw_at lw_m1 220 rfl) rfl
/-! java/util/Arrays -/
set_option maxRecDepth 100000
def RJ5 : String := "java/util/Arrays"
abbrev cJ5_copyOf : ByteArray := prog_47_method_119_code
def yJ5_copyOf : MethodName := ⟨RJ5, "copyOf", "([Ljava/lang/Object;I)[Ljava/lang/Object;"⟩
def dkwJ5_copyOf_0 : List UInt8 := [42, 27, 42, 182, 0, 86, 184, 1, 44, 176]
abbrev dktJ5_copyOf_0 : List UInt8 := dkwJ5_copyOf_0 ++ []
theorem dksJ5_copyOf_0 : cJ5_copyOf.data.toList.drop 0 = dktJ5_copyOf_0 := by decide +kernel
theorem dJ5_copyOf_0 : decode cJ5_copyOf 0 = .ok (.aload_n 0, 1) := dk_42 (dk_at dksJ5_copyOf_0 0 rfl rfl)
theorem dJ5_copyOf_1 : decode cJ5_copyOf 1 = .ok (.iload_n 1, 1) := dk_27 (dk_at dksJ5_copyOf_0 1 rfl rfl)
theorem dJ5_copyOf_2 : decode cJ5_copyOf 2 = .ok (.aload_n 0, 1) := dk_42 (dk_at dksJ5_copyOf_0 2 rfl rfl)
theorem dJ5_copyOf_3 : decode cJ5_copyOf 3 = .ok (.invokevirtual 86, 3) := dk_182 0 86 (dk_at dksJ5_copyOf_0 3 rfl rfl)
theorem dJ5_copyOf_6 : decode cJ5_copyOf 6 = .ok (.invokestatic 300, 3) := dk_184 1 44 (dk_at dksJ5_copyOf_0 6 rfl rfl)
theorem dJ5_copyOf_9 : decode cJ5_copyOf 9 = .ok (.areturn, 1) := dk_176 (dk_at dksJ5_copyOf_0 9 rfl rfl)
abbrev cJ5_copyOf_2 : ByteArray := prog_47_method_120_code
def yJ5_copyOf_2 : MethodName := ⟨RJ5, "copyOf", "([Ljava/lang/Object;ILjava/lang/Class;)[Ljava/lang/Object;"⟩
def dkwJ5_copyOf_2_1 : List UInt8 := [78, 42, 3, 45, 3, 42, 190, 27, 184, 1, 48, 184, 0, 150, 45, 176]
abbrev dktJ5_copyOf_2_1 : List UInt8 := dkwJ5_copyOf_2_1 ++ []
def dkwJ5_copyOf_2_0 : List UInt8 := [44, 18, 110, 166, 0, 10, 27, 189, 0, 2, 167, 0, 14, 44, 182, 0, 90, 27, 184, 0, 95, 192, 0, 110]
abbrev dktJ5_copyOf_2_0 : List UInt8 := dkwJ5_copyOf_2_0 ++ dktJ5_copyOf_2_1
theorem dksJ5_copyOf_2_0 : cJ5_copyOf_2.data.toList.drop 0 = dktJ5_copyOf_2_0 := by decide +kernel
theorem dksJ5_copyOf_2_1 : cJ5_copyOf_2.data.toList.drop 24 = dktJ5_copyOf_2_1 := dk_seg dksJ5_copyOf_2_0 24 rfl rfl
theorem dJ5_copyOf_2_0 : decode cJ5_copyOf_2 0 = .ok (.aload_n 2, 1) := dk_44 (dk_at dksJ5_copyOf_2_0 0 rfl rfl)
theorem dJ5_copyOf_2_1 : decode cJ5_copyOf_2 1 = .ok (.ldc 110, 2) := dk_18 110 (dk_at dksJ5_copyOf_2_0 1 rfl rfl)
theorem dJ5_copyOf_2_3 : decode cJ5_copyOf_2 3 = .ok (.if_acmp .ne 10, 3) := dk_166 0 10 (dk_at dksJ5_copyOf_2_0 3 rfl rfl)
theorem dJ5_copyOf_2_6 : decode cJ5_copyOf_2 6 = .ok (.iload_n 1, 1) := dk_27 (dk_at dksJ5_copyOf_2_0 6 rfl rfl)
theorem dJ5_copyOf_2_7 : decode cJ5_copyOf_2 7 = .ok (.anewarray 2, 3) := dk_189 0 2 (dk_at dksJ5_copyOf_2_0 7 rfl rfl)
theorem dJ5_copyOf_2_10 : decode cJ5_copyOf_2 10 = .ok (.goto 14, 3) := dk_167 0 14 (dk_at dksJ5_copyOf_2_0 10 rfl rfl)
theorem dJ5_copyOf_2_13 : decode cJ5_copyOf_2 13 = .ok (.aload_n 2, 1) := dk_44 (dk_at dksJ5_copyOf_2_0 13 rfl rfl)
theorem dJ5_copyOf_2_14 : decode cJ5_copyOf_2 14 = .ok (.invokevirtual 90, 3) := dk_182 0 90 (dk_at dksJ5_copyOf_2_0 14 rfl rfl)
theorem dJ5_copyOf_2_17 : decode cJ5_copyOf_2 17 = .ok (.iload_n 1, 1) := dk_27 (dk_at dksJ5_copyOf_2_0 17 rfl rfl)
theorem dJ5_copyOf_2_18 : decode cJ5_copyOf_2 18 = .ok (.invokestatic 95, 3) := dk_184 0 95 (dk_at dksJ5_copyOf_2_0 18 rfl rfl)
theorem dJ5_copyOf_2_21 : decode cJ5_copyOf_2 21 = .ok (.checkcast 110, 3) := dk_192 0 110 (dk_at dksJ5_copyOf_2_0 21 rfl rfl)
theorem dJ5_copyOf_2_24 : decode cJ5_copyOf_2 24 = .ok (.astore_n 3, 1) := dk_78 (dk_at dksJ5_copyOf_2_1 0 rfl rfl)
theorem dJ5_copyOf_2_25 : decode cJ5_copyOf_2 25 = .ok (.aload_n 0, 1) := dk_42 (dk_at dksJ5_copyOf_2_1 1 rfl rfl)
theorem dJ5_copyOf_2_26 : decode cJ5_copyOf_2 26 = .ok (.iconst 0, 1) := dk_3 (dk_at dksJ5_copyOf_2_1 2 rfl rfl)
theorem dJ5_copyOf_2_27 : decode cJ5_copyOf_2 27 = .ok (.aload_n 3, 1) := dk_45 (dk_at dksJ5_copyOf_2_1 3 rfl rfl)
theorem dJ5_copyOf_2_28 : decode cJ5_copyOf_2 28 = .ok (.iconst 0, 1) := dk_3 (dk_at dksJ5_copyOf_2_1 4 rfl rfl)
theorem dJ5_copyOf_2_29 : decode cJ5_copyOf_2 29 = .ok (.aload_n 0, 1) := dk_42 (dk_at dksJ5_copyOf_2_1 5 rfl rfl)
theorem dJ5_copyOf_2_30 : decode cJ5_copyOf_2 30 = .ok (.arraylength, 1) := dk_190 (dk_at dksJ5_copyOf_2_1 6 rfl rfl)
theorem dJ5_copyOf_2_31 : decode cJ5_copyOf_2 31 = .ok (.iload_n 1, 1) := dk_27 (dk_at dksJ5_copyOf_2_1 7 rfl rfl)
theorem dJ5_copyOf_2_32 : decode cJ5_copyOf_2 32 = .ok (.invokestatic 304, 3) := dk_184 1 48 (dk_at dksJ5_copyOf_2_1 8 rfl rfl)
theorem dJ5_copyOf_2_35 : decode cJ5_copyOf_2 35 = .ok (.invokestatic 150, 3) := dk_184 0 150 (dk_at dksJ5_copyOf_2_1 11 rfl rfl)
theorem dJ5_copyOf_2_38 : decode cJ5_copyOf_2 38 = .ok (.aload_n 3, 1) := dk_45 (dk_at dksJ5_copyOf_2_1 14 rfl rfl)
theorem dJ5_copyOf_2_39 : decode cJ5_copyOf_2 39 = .ok (.areturn, 1) := dk_176 (dk_at dksJ5_copyOf_2_1 15 rfl rfl)
abbrev cJ5_copyOf_3 : ByteArray := prog_47_method_121_code
def yJ5_copyOf_3 : MethodName := ⟨RJ5, "copyOf", "([BI)[B"⟩
def dkwJ5_copyOf_3_1 : List UInt8 := [27, 184, 1, 48, 184, 0, 150, 44, 176]
abbrev dktJ5_copyOf_3_1 : List UInt8 := dkwJ5_copyOf_3_1 ++ []
def dkwJ5_copyOf_3_0 : List UInt8 := [27, 42, 190, 160, 0, 11, 42, 182, 1, 54, 192, 1, 55, 176, 27, 188, 8, 77, 42, 3, 44, 3, 42, 190]
abbrev dktJ5_copyOf_3_0 : List UInt8 := dkwJ5_copyOf_3_0 ++ dktJ5_copyOf_3_1
theorem dksJ5_copyOf_3_0 : cJ5_copyOf_3.data.toList.drop 0 = dktJ5_copyOf_3_0 := by decide +kernel
theorem dksJ5_copyOf_3_1 : cJ5_copyOf_3.data.toList.drop 24 = dktJ5_copyOf_3_1 := dk_seg dksJ5_copyOf_3_0 24 rfl rfl
theorem dJ5_copyOf_3_0 : decode cJ5_copyOf_3 0 = .ok (.iload_n 1, 1) := dk_27 (dk_at dksJ5_copyOf_3_0 0 rfl rfl)
theorem dJ5_copyOf_3_1 : decode cJ5_copyOf_3 1 = .ok (.aload_n 0, 1) := dk_42 (dk_at dksJ5_copyOf_3_0 1 rfl rfl)
theorem dJ5_copyOf_3_2 : decode cJ5_copyOf_3 2 = .ok (.arraylength, 1) := dk_190 (dk_at dksJ5_copyOf_3_0 2 rfl rfl)
theorem dJ5_copyOf_3_3 : decode cJ5_copyOf_3 3 = .ok (.if_icmp .ne 11, 3) := dk_160 0 11 (dk_at dksJ5_copyOf_3_0 3 rfl rfl)
theorem dJ5_copyOf_3_6 : decode cJ5_copyOf_3 6 = .ok (.aload_n 0, 1) := dk_42 (dk_at dksJ5_copyOf_3_0 6 rfl rfl)
theorem dJ5_copyOf_3_7 : decode cJ5_copyOf_3 7 = .ok (.invokevirtual 310, 3) := dk_182 1 54 (dk_at dksJ5_copyOf_3_0 7 rfl rfl)
theorem dJ5_copyOf_3_10 : decode cJ5_copyOf_3 10 = .ok (.checkcast 311, 3) := dk_192 1 55 (dk_at dksJ5_copyOf_3_0 10 rfl rfl)
theorem dJ5_copyOf_3_13 : decode cJ5_copyOf_3 13 = .ok (.areturn, 1) := dk_176 (dk_at dksJ5_copyOf_3_0 13 rfl rfl)
theorem dJ5_copyOf_3_14 : decode cJ5_copyOf_3 14 = .ok (.iload_n 1, 1) := dk_27 (dk_at dksJ5_copyOf_3_0 14 rfl rfl)
theorem dJ5_copyOf_3_15 : decode cJ5_copyOf_3 15 = .ok (.newarray .byte, 2) := dk_188_8 (dk_at dksJ5_copyOf_3_0 15 rfl rfl)
theorem dJ5_copyOf_3_17 : decode cJ5_copyOf_3 17 = .ok (.astore_n 2, 1) := dk_77 (dk_at dksJ5_copyOf_3_0 17 rfl rfl)
theorem dJ5_copyOf_3_18 : decode cJ5_copyOf_3 18 = .ok (.aload_n 0, 1) := dk_42 (dk_at dksJ5_copyOf_3_0 18 rfl rfl)
theorem dJ5_copyOf_3_19 : decode cJ5_copyOf_3 19 = .ok (.iconst 0, 1) := dk_3 (dk_at dksJ5_copyOf_3_0 19 rfl rfl)
theorem dJ5_copyOf_3_20 : decode cJ5_copyOf_3 20 = .ok (.aload_n 2, 1) := dk_44 (dk_at dksJ5_copyOf_3_0 20 rfl rfl)
theorem dJ5_copyOf_3_21 : decode cJ5_copyOf_3 21 = .ok (.iconst 0, 1) := dk_3 (dk_at dksJ5_copyOf_3_0 21 rfl rfl)
theorem dJ5_copyOf_3_22 : decode cJ5_copyOf_3 22 = .ok (.aload_n 0, 1) := dk_42 (dk_at dksJ5_copyOf_3_0 22 rfl rfl)
theorem dJ5_copyOf_3_23 : decode cJ5_copyOf_3 23 = .ok (.arraylength, 1) := dk_190 (dk_at dksJ5_copyOf_3_0 23 rfl rfl)
theorem dJ5_copyOf_3_24 : decode cJ5_copyOf_3 24 = .ok (.iload_n 1, 1) := dk_27 (dk_at dksJ5_copyOf_3_1 0 rfl rfl)
theorem dJ5_copyOf_3_25 : decode cJ5_copyOf_3 25 = .ok (.invokestatic 304, 3) := dk_184 1 48 (dk_at dksJ5_copyOf_3_1 1 rfl rfl)
theorem dJ5_copyOf_3_28 : decode cJ5_copyOf_3 28 = .ok (.invokestatic 150, 3) := dk_184 0 150 (dk_at dksJ5_copyOf_3_1 4 rfl rfl)
theorem dJ5_copyOf_3_31 : decode cJ5_copyOf_3 31 = .ok (.aload_n 2, 1) := dk_44 (dk_at dksJ5_copyOf_3_1 7 rfl rfl)
theorem dJ5_copyOf_3_32 : decode cJ5_copyOf_3 32 = .ok (.areturn, 1) := dk_176 (dk_at dksJ5_copyOf_3_1 8 rfl rfl)
abbrev cJ5_copyOfRange : ByteArray := prog_47_method_132_code
def yJ5_copyOfRange : MethodName := ⟨RJ5, "copyOfRange", "([BII)[B"⟩
def dkwJ5_copyOfRange_1 : List UInt8 := [176]
abbrev dktJ5_copyOfRange_1 : List UInt8 := dkwJ5_copyOfRange_1 ++ []
def dkwJ5_copyOfRange_0 : List UInt8 := [27, 154, 0, 9, 28, 42, 190, 159, 0, 10, 42, 27, 28, 184, 1, 83, 176, 42, 182, 1, 54, 192, 1, 55]
abbrev dktJ5_copyOfRange_0 : List UInt8 := dkwJ5_copyOfRange_0 ++ dktJ5_copyOfRange_1
theorem dksJ5_copyOfRange_0 : cJ5_copyOfRange.data.toList.drop 0 = dktJ5_copyOfRange_0 := by decide +kernel
theorem dksJ5_copyOfRange_1 : cJ5_copyOfRange.data.toList.drop 24 = dktJ5_copyOfRange_1 := dk_seg dksJ5_copyOfRange_0 24 rfl rfl
theorem dJ5_copyOfRange_0 : decode cJ5_copyOfRange 0 = .ok (.iload_n 1, 1) := dk_27 (dk_at dksJ5_copyOfRange_0 0 rfl rfl)
theorem dJ5_copyOfRange_1 : decode cJ5_copyOfRange 1 = .ok (.ifCond .ne 9, 3) := dk_154 0 9 (dk_at dksJ5_copyOfRange_0 1 rfl rfl)
theorem dJ5_copyOfRange_4 : decode cJ5_copyOfRange 4 = .ok (.iload_n 2, 1) := dk_28 (dk_at dksJ5_copyOfRange_0 4 rfl rfl)
theorem dJ5_copyOfRange_5 : decode cJ5_copyOfRange 5 = .ok (.aload_n 0, 1) := dk_42 (dk_at dksJ5_copyOfRange_0 5 rfl rfl)
theorem dJ5_copyOfRange_6 : decode cJ5_copyOfRange 6 = .ok (.arraylength, 1) := dk_190 (dk_at dksJ5_copyOfRange_0 6 rfl rfl)
theorem dJ5_copyOfRange_7 : decode cJ5_copyOfRange 7 = .ok (.if_icmp .eq 10, 3) := dk_159 0 10 (dk_at dksJ5_copyOfRange_0 7 rfl rfl)
theorem dJ5_copyOfRange_10 : decode cJ5_copyOfRange 10 = .ok (.aload_n 0, 1) := dk_42 (dk_at dksJ5_copyOfRange_0 10 rfl rfl)
theorem dJ5_copyOfRange_11 : decode cJ5_copyOfRange 11 = .ok (.iload_n 1, 1) := dk_27 (dk_at dksJ5_copyOfRange_0 11 rfl rfl)
theorem dJ5_copyOfRange_12 : decode cJ5_copyOfRange 12 = .ok (.iload_n 2, 1) := dk_28 (dk_at dksJ5_copyOfRange_0 12 rfl rfl)
theorem dJ5_copyOfRange_13 : decode cJ5_copyOfRange 13 = .ok (.invokestatic 339, 3) := dk_184 1 83 (dk_at dksJ5_copyOfRange_0 13 rfl rfl)
theorem dJ5_copyOfRange_16 : decode cJ5_copyOfRange 16 = .ok (.areturn, 1) := dk_176 (dk_at dksJ5_copyOfRange_0 16 rfl rfl)
theorem dJ5_copyOfRange_17 : decode cJ5_copyOfRange 17 = .ok (.aload_n 0, 1) := dk_42 (dk_at dksJ5_copyOfRange_0 17 rfl rfl)
theorem dJ5_copyOfRange_18 : decode cJ5_copyOfRange 18 = .ok (.invokevirtual 310, 3) := dk_182 1 54 (dk_at dksJ5_copyOfRange_0 18 rfl rfl)
theorem dJ5_copyOfRange_21 : decode cJ5_copyOfRange 21 = .ok (.checkcast 311, 3) := dk_192 1 55 (dk_at dksJ5_copyOfRange_0 21 rfl rfl)
theorem dJ5_copyOfRange_24 : decode cJ5_copyOfRange 24 = .ok (.areturn, 1) := dk_176 (dk_at dksJ5_copyOfRange_1 0 rfl rfl)
abbrev cJ5_copyOfRangeByte : ByteArray := prog_47_method_133_code
def yJ5_copyOfRangeByte : MethodName := ⟨RJ5, "copyOfRangeByte", "([BII)[B"⟩
def dkwJ5_copyOfRangeByte_1 : List UInt8 := [184, 1, 48, 184, 0, 150, 25, 4, 176]
abbrev dktJ5_copyOfRangeByte_1 : List UInt8 := dkwJ5_copyOfRangeByte_1 ++ []
def dkwJ5_copyOfRangeByte_0 : List UInt8 := [27, 28, 184, 1, 87, 28, 27, 100, 62, 29, 188, 8, 58, 4, 42, 27, 25, 4, 3, 42, 190, 27, 100, 29]
abbrev dktJ5_copyOfRangeByte_0 : List UInt8 := dkwJ5_copyOfRangeByte_0 ++ dktJ5_copyOfRangeByte_1
theorem dksJ5_copyOfRangeByte_0 : cJ5_copyOfRangeByte.data.toList.drop 0 = dktJ5_copyOfRangeByte_0 := by decide +kernel
theorem dksJ5_copyOfRangeByte_1 : cJ5_copyOfRangeByte.data.toList.drop 24 = dktJ5_copyOfRangeByte_1 := dk_seg dksJ5_copyOfRangeByte_0 24 rfl rfl
theorem dJ5_copyOfRangeByte_0 : decode cJ5_copyOfRangeByte 0 = .ok (.iload_n 1, 1) := dk_27 (dk_at dksJ5_copyOfRangeByte_0 0 rfl rfl)
theorem dJ5_copyOfRangeByte_1 : decode cJ5_copyOfRangeByte 1 = .ok (.iload_n 2, 1) := dk_28 (dk_at dksJ5_copyOfRangeByte_0 1 rfl rfl)
theorem dJ5_copyOfRangeByte_2 : decode cJ5_copyOfRangeByte 2 = .ok (.invokestatic 343, 3) := dk_184 1 87 (dk_at dksJ5_copyOfRangeByte_0 2 rfl rfl)
theorem dJ5_copyOfRangeByte_5 : decode cJ5_copyOfRangeByte 5 = .ok (.iload_n 2, 1) := dk_28 (dk_at dksJ5_copyOfRangeByte_0 5 rfl rfl)
theorem dJ5_copyOfRangeByte_6 : decode cJ5_copyOfRangeByte 6 = .ok (.iload_n 1, 1) := dk_27 (dk_at dksJ5_copyOfRangeByte_0 6 rfl rfl)
theorem dJ5_copyOfRangeByte_7 : decode cJ5_copyOfRangeByte 7 = .ok (.isub, 1) := dk_100 (dk_at dksJ5_copyOfRangeByte_0 7 rfl rfl)
theorem dJ5_copyOfRangeByte_8 : decode cJ5_copyOfRangeByte 8 = .ok (.istore_n 3, 1) := dk_62 (dk_at dksJ5_copyOfRangeByte_0 8 rfl rfl)
theorem dJ5_copyOfRangeByte_9 : decode cJ5_copyOfRangeByte 9 = .ok (.iload_n 3, 1) := dk_29 (dk_at dksJ5_copyOfRangeByte_0 9 rfl rfl)
theorem dJ5_copyOfRangeByte_10 : decode cJ5_copyOfRangeByte 10 = .ok (.newarray .byte, 2) := dk_188_8 (dk_at dksJ5_copyOfRangeByte_0 10 rfl rfl)
theorem dJ5_copyOfRangeByte_12 : decode cJ5_copyOfRangeByte 12 = .ok (.astore 4, 2) := dk_58 4 (dk_at dksJ5_copyOfRangeByte_0 12 rfl rfl)
theorem dJ5_copyOfRangeByte_14 : decode cJ5_copyOfRangeByte 14 = .ok (.aload_n 0, 1) := dk_42 (dk_at dksJ5_copyOfRangeByte_0 14 rfl rfl)
theorem dJ5_copyOfRangeByte_15 : decode cJ5_copyOfRangeByte 15 = .ok (.iload_n 1, 1) := dk_27 (dk_at dksJ5_copyOfRangeByte_0 15 rfl rfl)
theorem dJ5_copyOfRangeByte_16 : decode cJ5_copyOfRangeByte 16 = .ok (.aload 4, 2) := dk_25 4 (dk_at dksJ5_copyOfRangeByte_0 16 rfl rfl)
theorem dJ5_copyOfRangeByte_18 : decode cJ5_copyOfRangeByte 18 = .ok (.iconst 0, 1) := dk_3 (dk_at dksJ5_copyOfRangeByte_0 18 rfl rfl)
theorem dJ5_copyOfRangeByte_19 : decode cJ5_copyOfRangeByte 19 = .ok (.aload_n 0, 1) := dk_42 (dk_at dksJ5_copyOfRangeByte_0 19 rfl rfl)
theorem dJ5_copyOfRangeByte_20 : decode cJ5_copyOfRangeByte 20 = .ok (.arraylength, 1) := dk_190 (dk_at dksJ5_copyOfRangeByte_0 20 rfl rfl)
theorem dJ5_copyOfRangeByte_21 : decode cJ5_copyOfRangeByte 21 = .ok (.iload_n 1, 1) := dk_27 (dk_at dksJ5_copyOfRangeByte_0 21 rfl rfl)
theorem dJ5_copyOfRangeByte_22 : decode cJ5_copyOfRangeByte 22 = .ok (.isub, 1) := dk_100 (dk_at dksJ5_copyOfRangeByte_0 22 rfl rfl)
theorem dJ5_copyOfRangeByte_23 : decode cJ5_copyOfRangeByte 23 = .ok (.iload_n 3, 1) := dk_29 (dk_at dksJ5_copyOfRangeByte_0 23 rfl rfl)
theorem dJ5_copyOfRangeByte_24 : decode cJ5_copyOfRangeByte 24 = .ok (.invokestatic 304, 3) := dk_184 1 48 (dk_at dksJ5_copyOfRangeByte_1 0 rfl rfl)
theorem dJ5_copyOfRangeByte_27 : decode cJ5_copyOfRangeByte 27 = .ok (.invokestatic 150, 3) := dk_184 0 150 (dk_at dksJ5_copyOfRangeByte_1 3 rfl rfl)
theorem dJ5_copyOfRangeByte_30 : decode cJ5_copyOfRangeByte 30 = .ok (.aload 4, 2) := dk_25 4 (dk_at dksJ5_copyOfRangeByte_1 6 rfl rfl)
theorem dJ5_copyOfRangeByte_32 : decode cJ5_copyOfRangeByte 32 = .ok (.areturn, 1) := dk_176 (dk_at dksJ5_copyOfRangeByte_1 8 rfl rfl)
abbrev cJ5_checkLength : ByteArray := prog_47_method_131_code
def yJ5_checkLength : MethodName := ⟨RJ5, "checkLength", "(II)V"⟩
def dkwJ5_checkLength_1 : List UInt8 := [182, 0, 50, 27, 182, 0, 54, 182, 0, 61, 183, 0, 65, 191, 177]
abbrev dktJ5_checkLength_1 : List UInt8 := dkwJ5_checkLength_1 ++ []
def dkwJ5_checkLength_0 : List UInt8 := [27, 26, 162, 0, 35, 187, 0, 43, 89, 187, 0, 45, 89, 183, 0, 47, 26, 182, 0, 54, 19, 1, 81]
abbrev dktJ5_checkLength_0 : List UInt8 := dkwJ5_checkLength_0 ++ dktJ5_checkLength_1
theorem dksJ5_checkLength_0 : cJ5_checkLength.data.toList.drop 0 = dktJ5_checkLength_0 := by decide +kernel
theorem dksJ5_checkLength_1 : cJ5_checkLength.data.toList.drop 23 = dktJ5_checkLength_1 := dk_seg dksJ5_checkLength_0 23 rfl rfl
theorem dJ5_checkLength_0 : decode cJ5_checkLength 0 = .ok (.iload_n 1, 1) := dk_27 (dk_at dksJ5_checkLength_0 0 rfl rfl)
theorem dJ5_checkLength_1 : decode cJ5_checkLength 1 = .ok (.iload_n 0, 1) := dk_26 (dk_at dksJ5_checkLength_0 1 rfl rfl)
theorem dJ5_checkLength_2 : decode cJ5_checkLength 2 = .ok (.if_icmp .ge 35, 3) := dk_162 0 35 (dk_at dksJ5_checkLength_0 2 rfl rfl)
theorem dJ5_checkLength_5 : decode cJ5_checkLength 5 = .ok (.new 43, 3) := dk_187 0 43 (dk_at dksJ5_checkLength_0 5 rfl rfl)
theorem dJ5_checkLength_8 : decode cJ5_checkLength 8 = .ok (.dup, 1) := dk_89 (dk_at dksJ5_checkLength_0 8 rfl rfl)
theorem dJ5_checkLength_9 : decode cJ5_checkLength 9 = .ok (.new 45, 3) := dk_187 0 45 (dk_at dksJ5_checkLength_0 9 rfl rfl)
theorem dJ5_checkLength_12 : decode cJ5_checkLength 12 = .ok (.dup, 1) := dk_89 (dk_at dksJ5_checkLength_0 12 rfl rfl)
theorem dJ5_checkLength_13 : decode cJ5_checkLength 13 = .ok (.invokespecial 47, 3) := dk_183 0 47 (dk_at dksJ5_checkLength_0 13 rfl rfl)
theorem dJ5_checkLength_16 : decode cJ5_checkLength 16 = .ok (.iload_n 0, 1) := dk_26 (dk_at dksJ5_checkLength_0 16 rfl rfl)
theorem dJ5_checkLength_17 : decode cJ5_checkLength 17 = .ok (.invokevirtual 54, 3) := dk_182 0 54 (dk_at dksJ5_checkLength_0 17 rfl rfl)
theorem dJ5_checkLength_20 : decode cJ5_checkLength 20 = .ok (.ldc_w 337, 3) := dk_19 1 81 (dk_at dksJ5_checkLength_0 20 rfl rfl)
theorem dJ5_checkLength_23 : decode cJ5_checkLength 23 = .ok (.invokevirtual 50, 3) := dk_182 0 50 (dk_at dksJ5_checkLength_1 0 rfl rfl)
theorem dJ5_checkLength_26 : decode cJ5_checkLength 26 = .ok (.iload_n 1, 1) := dk_27 (dk_at dksJ5_checkLength_1 3 rfl rfl)
theorem dJ5_checkLength_27 : decode cJ5_checkLength 27 = .ok (.invokevirtual 54, 3) := dk_182 0 54 (dk_at dksJ5_checkLength_1 4 rfl rfl)
theorem dJ5_checkLength_30 : decode cJ5_checkLength 30 = .ok (.invokevirtual 61, 3) := dk_182 0 61 (dk_at dksJ5_checkLength_1 7 rfl rfl)
theorem dJ5_checkLength_33 : decode cJ5_checkLength 33 = .ok (.invokespecial 65, 3) := dk_183 0 65 (dk_at dksJ5_checkLength_1 10 rfl rfl)
theorem dJ5_checkLength_36 : decode cJ5_checkLength 36 = .ok (.athrow, 1) := dk_191 (dk_at dksJ5_checkLength_1 13 rfl rfl)
theorem dJ5_checkLength_37 : decode cJ5_checkLength 37 = .ok (.return_, 1) := dk_177 (dk_at dksJ5_checkLength_1 14 rfl rfl)
abbrev cJ5_fill : ByteArray := prog_47_method_103_code
def yJ5_fill : MethodName := ⟨RJ5, "fill", "([II)V"⟩
def dkwJ5_fill_0 : List UInt8 := [3, 61, 42, 190, 62, 28, 29, 162, 0, 13, 42, 28, 27, 79, 132, 2, 1, 167, 255, 244, 177]
abbrev dktJ5_fill_0 : List UInt8 := dkwJ5_fill_0 ++ []
theorem dksJ5_fill_0 : cJ5_fill.data.toList.drop 0 = dktJ5_fill_0 := by decide +kernel
theorem dJ5_fill_0 : decode cJ5_fill 0 = .ok (.iconst 0, 1) := dk_3 (dk_at dksJ5_fill_0 0 rfl rfl)
theorem dJ5_fill_1 : decode cJ5_fill 1 = .ok (.istore_n 2, 1) := dk_61 (dk_at dksJ5_fill_0 1 rfl rfl)
theorem dJ5_fill_2 : decode cJ5_fill 2 = .ok (.aload_n 0, 1) := dk_42 (dk_at dksJ5_fill_0 2 rfl rfl)
theorem dJ5_fill_3 : decode cJ5_fill 3 = .ok (.arraylength, 1) := dk_190 (dk_at dksJ5_fill_0 3 rfl rfl)
theorem dJ5_fill_4 : decode cJ5_fill 4 = .ok (.istore_n 3, 1) := dk_62 (dk_at dksJ5_fill_0 4 rfl rfl)
theorem dJ5_fill_5 : decode cJ5_fill 5 = .ok (.iload_n 2, 1) := dk_28 (dk_at dksJ5_fill_0 5 rfl rfl)
theorem dJ5_fill_6 : decode cJ5_fill 6 = .ok (.iload_n 3, 1) := dk_29 (dk_at dksJ5_fill_0 6 rfl rfl)
theorem dJ5_fill_7 : decode cJ5_fill 7 = .ok (.if_icmp .ge 13, 3) := dk_162 0 13 (dk_at dksJ5_fill_0 7 rfl rfl)
theorem dJ5_fill_10 : decode cJ5_fill 10 = .ok (.aload_n 0, 1) := dk_42 (dk_at dksJ5_fill_0 10 rfl rfl)
theorem dJ5_fill_11 : decode cJ5_fill 11 = .ok (.iload_n 2, 1) := dk_28 (dk_at dksJ5_fill_0 11 rfl rfl)
theorem dJ5_fill_12 : decode cJ5_fill 12 = .ok (.iload_n 1, 1) := dk_27 (dk_at dksJ5_fill_0 12 rfl rfl)
theorem dJ5_fill_13 : decode cJ5_fill 13 = .ok (.iastore, 1) := dk_79 (dk_at dksJ5_fill_0 13 rfl rfl)
theorem dJ5_fill_14 : decode cJ5_fill 14 = .ok (.iinc 2 1, 3) := dk_132 2 1 (dk_at dksJ5_fill_0 14 rfl rfl)
theorem dJ5_fill_17 : decode cJ5_fill 17 = .ok (.goto (-12), 3) := dk_167 255 244 (dk_at dksJ5_fill_0 17 rfl rfl)
theorem dJ5_fill_20 : decode cJ5_fill 20 = .ok (.return_, 1) := dk_177 (dk_at dksJ5_fill_0 20 rfl rfl)
theorem q74 : (Jvm.Cond.initialized "java/util/Arrays") ∈ lw_all := lw_g (lw_at lw_m1 11 rfl) rfl
theorem q245 : (Jvm.Cond.static ({ cls := "java/util/Arrays", name := "copyOf", desc := "([Ljava/lang/Object;I)[Ljava/lang/Object;" } : Jvm.MethodName)) ∈ lw_all := lw_g (lw_at lw_m1 182 rfl) rfl
theorem q246 : (Jvm.Cond.code ({ cls := "java/util/Arrays", name := "copyOf", desc := "([Ljava/lang/Object;I)[Ljava/lang/Object;" } : Jvm.MethodName) prog_47_method_119_code (2 : Nat) (Option.some (Jvm.ClassFile.FieldType.array (Jvm.ClassFile.FieldType.object "java/lang/Object")))) ∈ lw_all := lw_g (lw_at lw_m1 183 rfl) rfl
theorem q247 : (Jvm.Cond.methodLink "java/util/Arrays" (86 : Nat) ({ cls := "java/lang/Object", name := "getClass", desc := "()Ljava/lang/Class;" } : Jvm.MethodName)) ∈ lw_all := lw_g (lw_at lw_m1 184 rfl) rfl
theorem q275 : (Jvm.Cond.methodLink "java/util/Arrays" (300 : Nat) ({ cls := "java/util/Arrays", name := "copyOf", desc := "([Ljava/lang/Object;ILjava/lang/Class;)[Ljava/lang/Object;" } : Jvm.MethodName)) ∈ lw_all := lw_g (lw_at lw_m1 212 rfl) rfl
theorem q276 : (Jvm.Cond.static ({ cls := "java/util/Arrays", name := "copyOf", desc := "([Ljava/lang/Object;ILjava/lang/Class;)[Ljava/lang/Object;" } : Jvm.MethodName)) ∈ lw_all := lw_g (lw_at lw_m1 213 rfl) rfl
theorem q277 : (Jvm.Cond.code ({ cls := "java/util/Arrays", name := "copyOf", desc := "([Ljava/lang/Object;ILjava/lang/Class;)[Ljava/lang/Object;" } : Jvm.MethodName) prog_47_method_120_code (4 : Nat) (Option.some (Jvm.ClassFile.FieldType.array (Jvm.ClassFile.FieldType.object "java/lang/Object")))) ∈ lw_all := lw_g (lw_at lw_m1 214 rfl) rfl
theorem q278 : (Jvm.Cond.classLink "java/util/Arrays" (110 : Nat) "[Ljava/lang/Object;") ∈ lw_all := lw_g (lw_at lw_m1 215 rfl) rfl
theorem q280 : (Jvm.Cond.classLink "java/util/Arrays" (2 : Nat) "java/lang/Object") ∈ lw_all := lw_g (lw_at lw_m1 217 rfl) rfl
theorem q281 : (Jvm.Cond.methodLink "java/util/Arrays" (304 : Nat) ({ cls := "java/lang/Math", name := "min", desc := "(II)I" } : Jvm.MethodName)) ∈ lw_all := lw_g (lw_at lw_m1 218 rfl) rfl
theorem q284 : (Jvm.Cond.methodLink "java/util/Arrays" (150 : Nat) ({ cls := "java/lang/System", name := "arraycopy", desc := "(Ljava/lang/Object;ILjava/lang/Object;II)V" } : Jvm.MethodName)) ∈ lw_all := lw_g (lw_at lw_m1 221 rfl) rfl
theorem q766 : (Jvm.Cond.static ({ cls := "java/util/Arrays", name := "copyOf", desc := "([BI)[B" } : Jvm.MethodName)) ∈ lw_all := lw_g (lw_at lw_m3 223 rfl) rfl
theorem q767 : (Jvm.Cond.code ({ cls := "java/util/Arrays", name := "copyOf", desc := "([BI)[B" } : Jvm.MethodName) prog_47_method_121_code (3 : Nat) (Option.some (Jvm.ClassFile.FieldType.array Jvm.ClassFile.FieldType.byte))) ∈ lw_all := lw_g (lw_at lw_m3 224 rfl) rfl
theorem q768 : (Jvm.Cond.methodLink "java/util/Arrays" (310 : Nat) ({ cls := "[B", name := "clone", desc := "()Ljava/lang/Object;" } : Jvm.MethodName)) ∈ lw_all := lw_g (lw_at lw_m3 225 rfl) rfl
theorem q774 : (Jvm.Cond.classLink "java/util/Arrays" (311 : Nat) "[B") ∈ lw_all := lw_g (lw_at lw_m3 231 rfl) rfl
theorem q903 : (Jvm.Cond.static ({ cls := "java/util/Arrays", name := "copyOfRange", desc := "([BII)[B" } : Jvm.MethodName)) ∈ lw_all := lw_g (lw_at lw_m4 120 rfl) rfl
theorem q904 : (Jvm.Cond.code ({ cls := "java/util/Arrays", name := "copyOfRange", desc := "([BII)[B" } : Jvm.MethodName) prog_47_method_132_code (3 : Nat) (Option.some (Jvm.ClassFile.FieldType.array Jvm.ClassFile.FieldType.byte))) ∈ lw_all := lw_g (lw_at lw_m4 121 rfl) rfl
theorem q905 : (Jvm.Cond.methodLink "java/util/Arrays" (339 : Nat) ({ cls := "java/util/Arrays", name := "copyOfRangeByte", desc := "([BII)[B" } : Jvm.MethodName)) ∈ lw_all := lw_g (lw_at lw_m4 122 rfl) rfl
theorem q906 : (Jvm.Cond.static ({ cls := "java/util/Arrays", name := "copyOfRangeByte", desc := "([BII)[B" } : Jvm.MethodName)) ∈ lw_all := lw_g (lw_at lw_m4 123 rfl) rfl
theorem q907 : (Jvm.Cond.code ({ cls := "java/util/Arrays", name := "copyOfRangeByte", desc := "([BII)[B" } : Jvm.MethodName) prog_47_method_133_code (5 : Nat) (Option.some (Jvm.ClassFile.FieldType.array Jvm.ClassFile.FieldType.byte))) ∈ lw_all := lw_g (lw_at lw_m4 124 rfl) rfl
theorem q908 : (Jvm.Cond.methodLink "java/util/Arrays" (343 : Nat) ({ cls := "java/util/Arrays", name := "checkLength", desc := "(II)V" } : Jvm.MethodName)) ∈ lw_all := lw_g (lw_at lw_m4 125 rfl) rfl
theorem q909 : (Jvm.Cond.static ({ cls := "java/util/Arrays", name := "checkLength", desc := "(II)V" } : Jvm.MethodName)) ∈ lw_all := lw_g (lw_at lw_m4 126 rfl) rfl
theorem q910 : (Jvm.Cond.code ({ cls := "java/util/Arrays", name := "checkLength", desc := "(II)V" } : Jvm.MethodName) prog_47_method_131_code (2 : Nat) (Option.none : Option Jvm.ClassFile.FieldType)) ∈ lw_all := lw_g (lw_at lw_m4 127 rfl) rfl
theorem q911 : (Jvm.Cond.classLink "java/util/Arrays" (43 : Nat) "java/lang/IllegalArgumentException") ∈ lw_all := lw_g (lw_at lw_m4 128 rfl) rfl
theorem q953 : (Jvm.Cond.classLink "java/util/Arrays" (45 : Nat) "java/lang/StringBuilder") ∈ lw_all := lw_g (lw_at lw_m4 170 rfl) rfl
theorem q954 : (Jvm.Cond.methodLink "java/util/Arrays" (47 : Nat) ({ cls := "java/lang/StringBuilder", name := "<init>", desc := "()V" } : Jvm.MethodName)) ∈ lw_all := lw_g (lw_at lw_m4 171 rfl) rfl
theorem q955 : (Jvm.Cond.methodLink "java/util/Arrays" (54 : Nat) ({ cls := "java/lang/StringBuilder", name := "append", desc := "(I)Ljava/lang/StringBuilder;" } : Jvm.MethodName)) ∈ lw_all := lw_g (lw_at lw_m4 172 rfl) rfl
theorem q956 : (Jvm.Cond.stringRef "java/util/Arrays" (337 : Nat) " > ") ∈ lw_tbl := lw_at lw_m4 173 rfl
theorem q957 : (Jvm.Cond.methodLink "java/util/Arrays" (50 : Nat) ({ cls := "java/lang/StringBuilder", name := "append", desc := "(Ljava/lang/String;)Ljava/lang/StringBuilder;" } : Jvm.MethodName)) ∈ lw_all := lw_g (lw_at lw_m4 174 rfl) rfl
theorem q958 : (Jvm.Cond.methodLink "java/util/Arrays" (61 : Nat) ({ cls := "java/lang/StringBuilder", name := "toString", desc := "()Ljava/lang/String;" } : Jvm.MethodName)) ∈ lw_all := lw_g (lw_at lw_m4 175 rfl) rfl
theorem q959 : (Jvm.Cond.methodLink "java/util/Arrays" (65 : Nat) ({ cls := "java/lang/IllegalArgumentException", name := "<init>", desc := "(Ljava/lang/String;)V" } : Jvm.MethodName)) ∈ lw_all := lw_g (lw_at lw_m4 176 rfl) rfl
theorem q1692 : (Jvm.Cond.static ({ cls := "java/util/Arrays", name := "fill", desc := "([II)V" } : Jvm.MethodName)) ∈ lw_all := lw_g (lw_at lw_m7 189 rfl) rfl
theorem q1693 : (Jvm.Cond.code ({ cls := "java/util/Arrays", name := "fill", desc := "([II)V" } : Jvm.MethodName) prog_47_method_103_code (4 : Nat) (Option.none : Option Jvm.ClassFile.FieldType)) ∈ lw_all := lw_g (lw_at lw_m7 190 rfl) rfl
/-! java/util/ArrayList$Itr -/
set_option maxRecDepth 100000
def RJ6 : String := "java/util/ArrayList$Itr"
def TJ6 : u_T := fun k => match k with
  | 0 => ("java/util/ArrayList$Itr", "cursor", "I", false)
  | 1 => ("java/util/ArrayList$Itr", "lastRet", "I", false)
  | 2 => ("java/util/ArrayList$Itr", "expectedModCount", "I", false)
  | _ => ("java/util/ArrayList$Itr", "this$0", "Ljava/util/ArrayList;", true)
def tyJ6 : Nat → FieldType := fun k => match k with
  | 0 => .int
  | 1 => .int
  | 2 => .int
  | _ => .object "java/util/ArrayList"
abbrev wsJ60 : List Cond := u_ws RJ6 TJ6 4
theorem nmJ6 : ∀ a, a < 4 → ∀ b, b < 4 → a ≠ b → (TJ6 a).2.1 ≠ (TJ6 b).2.1 := by decide +kernel
theorem tyJ6_ok : ∀ k, k < 4 → parseFieldDescriptor (TJ6 k).2.2.1 = some (tyJ6 k) := by decide +kernel
abbrev cJ6_init : ByteArray := prog_46_method_1_code
def yJ6_init : MethodName := ⟨RJ6, "<init>", "(Ljava/util/ArrayList;)V"⟩
def dkwJ6_init_1 : List UInt8 := [181, 0, 22, 177]
abbrev dktJ6_init_1 : List UInt8 := dkwJ6_init_1 ++ []
def dkwJ6_init_0 : List UInt8 := [42, 43, 181, 0, 1, 42, 183, 0, 7, 42, 2, 181, 0, 13, 42, 42, 180, 0, 1, 180, 0, 17]
abbrev dktJ6_init_0 : List UInt8 := dkwJ6_init_0 ++ dktJ6_init_1
theorem dksJ6_init_0 : cJ6_init.data.toList.drop 0 = dktJ6_init_0 := by decide +kernel
theorem dksJ6_init_1 : cJ6_init.data.toList.drop 22 = dktJ6_init_1 := dk_seg dksJ6_init_0 22 rfl rfl
theorem dJ6_init_0 : decode cJ6_init 0 = .ok (.aload_n 0, 1) := dk_42 (dk_at dksJ6_init_0 0 rfl rfl)
theorem dJ6_init_1 : decode cJ6_init 1 = .ok (.aload_n 1, 1) := dk_43 (dk_at dksJ6_init_0 1 rfl rfl)
theorem dJ6_init_2 : decode cJ6_init 2 = .ok (.putfield 1, 3) := dk_181 0 1 (dk_at dksJ6_init_0 2 rfl rfl)
theorem dJ6_init_5 : decode cJ6_init 5 = .ok (.aload_n 0, 1) := dk_42 (dk_at dksJ6_init_0 5 rfl rfl)
theorem dJ6_init_6 : decode cJ6_init 6 = .ok (.invokespecial 7, 3) := dk_183 0 7 (dk_at dksJ6_init_0 6 rfl rfl)
theorem dJ6_init_9 : decode cJ6_init 9 = .ok (.aload_n 0, 1) := dk_42 (dk_at dksJ6_init_0 9 rfl rfl)
theorem dJ6_init_10 : decode cJ6_init 10 = .ok (.iconst (-1), 1) := dk_2 (dk_at dksJ6_init_0 10 rfl rfl)
theorem dJ6_init_11 : decode cJ6_init 11 = .ok (.putfield 13, 3) := dk_181 0 13 (dk_at dksJ6_init_0 11 rfl rfl)
theorem dJ6_init_14 : decode cJ6_init 14 = .ok (.aload_n 0, 1) := dk_42 (dk_at dksJ6_init_0 14 rfl rfl)
theorem dJ6_init_15 : decode cJ6_init 15 = .ok (.aload_n 0, 1) := dk_42 (dk_at dksJ6_init_0 15 rfl rfl)
theorem dJ6_init_16 : decode cJ6_init 16 = .ok (.getfield 1, 3) := dk_180 0 1 (dk_at dksJ6_init_0 16 rfl rfl)
theorem dJ6_init_19 : decode cJ6_init 19 = .ok (.getfield 17, 3) := dk_180 0 17 (dk_at dksJ6_init_0 19 rfl rfl)
theorem dJ6_init_22 : decode cJ6_init 22 = .ok (.putfield 22, 3) := dk_181 0 22 (dk_at dksJ6_init_1 0 rfl rfl)
theorem dJ6_init_25 : decode cJ6_init 25 = .ok (.return_, 1) := dk_177 (dk_at dksJ6_init_1 3 rfl rfl)
abbrev cJ6_hasNext : ByteArray := prog_46_method_2_code
def yJ6_hasNext : MethodName := ⟨RJ6, "hasNext", "()Z"⟩
def dkwJ6_hasNext_0 : List UInt8 := [42, 180, 0, 25, 42, 180, 0, 1, 180, 0, 28, 159, 0, 7, 4, 167, 0, 4, 3, 172]
abbrev dktJ6_hasNext_0 : List UInt8 := dkwJ6_hasNext_0 ++ []
theorem dksJ6_hasNext_0 : cJ6_hasNext.data.toList.drop 0 = dktJ6_hasNext_0 := by decide +kernel
theorem dJ6_hasNext_0 : decode cJ6_hasNext 0 = .ok (.aload_n 0, 1) := dk_42 (dk_at dksJ6_hasNext_0 0 rfl rfl)
theorem dJ6_hasNext_1 : decode cJ6_hasNext 1 = .ok (.getfield 25, 3) := dk_180 0 25 (dk_at dksJ6_hasNext_0 1 rfl rfl)
theorem dJ6_hasNext_4 : decode cJ6_hasNext 4 = .ok (.aload_n 0, 1) := dk_42 (dk_at dksJ6_hasNext_0 4 rfl rfl)
theorem dJ6_hasNext_5 : decode cJ6_hasNext 5 = .ok (.getfield 1, 3) := dk_180 0 1 (dk_at dksJ6_hasNext_0 5 rfl rfl)
theorem dJ6_hasNext_8 : decode cJ6_hasNext 8 = .ok (.getfield 28, 3) := dk_180 0 28 (dk_at dksJ6_hasNext_0 8 rfl rfl)
theorem dJ6_hasNext_11 : decode cJ6_hasNext 11 = .ok (.if_icmp .eq 7, 3) := dk_159 0 7 (dk_at dksJ6_hasNext_0 11 rfl rfl)
theorem dJ6_hasNext_14 : decode cJ6_hasNext 14 = .ok (.iconst 1, 1) := dk_4 (dk_at dksJ6_hasNext_0 14 rfl rfl)
theorem dJ6_hasNext_15 : decode cJ6_hasNext 15 = .ok (.goto 4, 3) := dk_167 0 4 (dk_at dksJ6_hasNext_0 15 rfl rfl)
theorem dJ6_hasNext_18 : decode cJ6_hasNext 18 = .ok (.iconst 0, 1) := dk_3 (dk_at dksJ6_hasNext_0 18 rfl rfl)
theorem dJ6_hasNext_19 : decode cJ6_hasNext 19 = .ok (.ireturn, 1) := dk_172 (dk_at dksJ6_hasNext_0 19 rfl rfl)
abbrev cJ6_next : ByteArray := prog_46_method_3_code
def yJ6_next : MethodName := ⟨RJ6, "next", "()Ljava/lang/Object;"⟩
def dkwJ6_next_2 : List UInt8 := [183, 0, 43, 191, 42, 27, 4, 96, 181, 0, 25, 44, 42, 27, 90, 181, 0, 13, 50, 176]
abbrev dktJ6_next_2 : List UInt8 := dkwJ6_next_2 ++ []
def dkwJ6_next_1 : List UInt8 := [183, 0, 36, 191, 42, 180, 0, 1, 180, 0, 37, 77, 27, 44, 190, 161, 0, 11, 187, 0, 41, 89]
abbrev dktJ6_next_1 : List UInt8 := dkwJ6_next_1 ++ dktJ6_next_2
def dkwJ6_next_0 : List UInt8 := [42, 182, 0, 31, 42, 180, 0, 25, 60, 27, 42, 180, 0, 1, 180, 0, 28, 161, 0, 11, 187, 0, 34, 89]
abbrev dktJ6_next_0 : List UInt8 := dkwJ6_next_0 ++ dktJ6_next_1
theorem dksJ6_next_0 : cJ6_next.data.toList.drop 0 = dktJ6_next_0 := by decide +kernel
theorem dksJ6_next_1 : cJ6_next.data.toList.drop 24 = dktJ6_next_1 := dk_seg dksJ6_next_0 24 rfl rfl
theorem dksJ6_next_2 : cJ6_next.data.toList.drop 46 = dktJ6_next_2 := dk_seg dksJ6_next_1 22 rfl rfl
theorem dJ6_next_0 : decode cJ6_next 0 = .ok (.aload_n 0, 1) := dk_42 (dk_at dksJ6_next_0 0 rfl rfl)
theorem dJ6_next_1 : decode cJ6_next 1 = .ok (.invokevirtual 31, 3) := dk_182 0 31 (dk_at dksJ6_next_0 1 rfl rfl)
theorem dJ6_next_4 : decode cJ6_next 4 = .ok (.aload_n 0, 1) := dk_42 (dk_at dksJ6_next_0 4 rfl rfl)
theorem dJ6_next_5 : decode cJ6_next 5 = .ok (.getfield 25, 3) := dk_180 0 25 (dk_at dksJ6_next_0 5 rfl rfl)
theorem dJ6_next_8 : decode cJ6_next 8 = .ok (.istore_n 1, 1) := dk_60 (dk_at dksJ6_next_0 8 rfl rfl)
theorem dJ6_next_9 : decode cJ6_next 9 = .ok (.iload_n 1, 1) := dk_27 (dk_at dksJ6_next_0 9 rfl rfl)
theorem dJ6_next_10 : decode cJ6_next 10 = .ok (.aload_n 0, 1) := dk_42 (dk_at dksJ6_next_0 10 rfl rfl)
theorem dJ6_next_11 : decode cJ6_next 11 = .ok (.getfield 1, 3) := dk_180 0 1 (dk_at dksJ6_next_0 11 rfl rfl)
theorem dJ6_next_14 : decode cJ6_next 14 = .ok (.getfield 28, 3) := dk_180 0 28 (dk_at dksJ6_next_0 14 rfl rfl)
theorem dJ6_next_17 : decode cJ6_next 17 = .ok (.if_icmp .lt 11, 3) := dk_161 0 11 (dk_at dksJ6_next_0 17 rfl rfl)
theorem dJ6_next_20 : decode cJ6_next 20 = .ok (.new 34, 3) := dk_187 0 34 (dk_at dksJ6_next_0 20 rfl rfl)
theorem dJ6_next_23 : decode cJ6_next 23 = .ok (.dup, 1) := dk_89 (dk_at dksJ6_next_0 23 rfl rfl)
theorem dJ6_next_24 : decode cJ6_next 24 = .ok (.invokespecial 36, 3) := dk_183 0 36 (dk_at dksJ6_next_1 0 rfl rfl)
theorem dJ6_next_27 : decode cJ6_next 27 = .ok (.athrow, 1) := dk_191 (dk_at dksJ6_next_1 3 rfl rfl)
theorem dJ6_next_28 : decode cJ6_next 28 = .ok (.aload_n 0, 1) := dk_42 (dk_at dksJ6_next_1 4 rfl rfl)
theorem dJ6_next_29 : decode cJ6_next 29 = .ok (.getfield 1, 3) := dk_180 0 1 (dk_at dksJ6_next_1 5 rfl rfl)
theorem dJ6_next_32 : decode cJ6_next 32 = .ok (.getfield 37, 3) := dk_180 0 37 (dk_at dksJ6_next_1 8 rfl rfl)
theorem dJ6_next_35 : decode cJ6_next 35 = .ok (.astore_n 2, 1) := dk_77 (dk_at dksJ6_next_1 11 rfl rfl)
theorem dJ6_next_36 : decode cJ6_next 36 = .ok (.iload_n 1, 1) := dk_27 (dk_at dksJ6_next_1 12 rfl rfl)
theorem dJ6_next_37 : decode cJ6_next 37 = .ok (.aload_n 2, 1) := dk_44 (dk_at dksJ6_next_1 13 rfl rfl)
theorem dJ6_next_38 : decode cJ6_next 38 = .ok (.arraylength, 1) := dk_190 (dk_at dksJ6_next_1 14 rfl rfl)
theorem dJ6_next_39 : decode cJ6_next 39 = .ok (.if_icmp .lt 11, 3) := dk_161 0 11 (dk_at dksJ6_next_1 15 rfl rfl)
theorem dJ6_next_42 : decode cJ6_next 42 = .ok (.new 41, 3) := dk_187 0 41 (dk_at dksJ6_next_1 18 rfl rfl)
theorem dJ6_next_45 : decode cJ6_next 45 = .ok (.dup, 1) := dk_89 (dk_at dksJ6_next_1 21 rfl rfl)
theorem dJ6_next_46 : decode cJ6_next 46 = .ok (.invokespecial 43, 3) := dk_183 0 43 (dk_at dksJ6_next_2 0 rfl rfl)
theorem dJ6_next_49 : decode cJ6_next 49 = .ok (.athrow, 1) := dk_191 (dk_at dksJ6_next_2 3 rfl rfl)
theorem dJ6_next_50 : decode cJ6_next 50 = .ok (.aload_n 0, 1) := dk_42 (dk_at dksJ6_next_2 4 rfl rfl)
theorem dJ6_next_51 : decode cJ6_next 51 = .ok (.iload_n 1, 1) := dk_27 (dk_at dksJ6_next_2 5 rfl rfl)
theorem dJ6_next_52 : decode cJ6_next 52 = .ok (.iconst 1, 1) := dk_4 (dk_at dksJ6_next_2 6 rfl rfl)
theorem dJ6_next_53 : decode cJ6_next 53 = .ok (.iadd, 1) := dk_96 (dk_at dksJ6_next_2 7 rfl rfl)
theorem dJ6_next_54 : decode cJ6_next 54 = .ok (.putfield 25, 3) := dk_181 0 25 (dk_at dksJ6_next_2 8 rfl rfl)
theorem dJ6_next_57 : decode cJ6_next 57 = .ok (.aload_n 2, 1) := dk_44 (dk_at dksJ6_next_2 11 rfl rfl)
theorem dJ6_next_58 : decode cJ6_next 58 = .ok (.aload_n 0, 1) := dk_42 (dk_at dksJ6_next_2 12 rfl rfl)
theorem dJ6_next_59 : decode cJ6_next 59 = .ok (.iload_n 1, 1) := dk_27 (dk_at dksJ6_next_2 13 rfl rfl)
theorem dJ6_next_60 : decode cJ6_next 60 = .ok (.dup_x1, 1) := dk_90 (dk_at dksJ6_next_2 14 rfl rfl)
theorem dJ6_next_61 : decode cJ6_next 61 = .ok (.putfield 13, 3) := dk_181 0 13 (dk_at dksJ6_next_2 15 rfl rfl)
theorem dJ6_next_64 : decode cJ6_next 64 = .ok (.aaload, 1) := dk_50 (dk_at dksJ6_next_2 18 rfl rfl)
theorem dJ6_next_65 : decode cJ6_next 65 = .ok (.areturn, 1) := dk_176 (dk_at dksJ6_next_2 19 rfl rfl)
abbrev cJ6_checkForComodification : ByteArray := prog_46_method_6_code
def yJ6_checkForComodification : MethodName := ⟨RJ6, "checkForComodification", "()V"⟩
def dkwJ6_checkForComodification_0 : List UInt8 := [42, 180, 0, 1, 180, 0, 17, 42, 180, 0, 22, 159, 0, 11, 187, 0, 41, 89, 183, 0, 43, 191, 177]
abbrev dktJ6_checkForComodification_0 : List UInt8 := dkwJ6_checkForComodification_0 ++ []
theorem dksJ6_checkForComodification_0 : cJ6_checkForComodification.data.toList.drop 0 = dktJ6_checkForComodification_0 := by decide +kernel
theorem dJ6_checkForComodification_0 : decode cJ6_checkForComodification 0 = .ok (.aload_n 0, 1) := dk_42 (dk_at dksJ6_checkForComodification_0 0 rfl rfl)
theorem dJ6_checkForComodification_1 : decode cJ6_checkForComodification 1 = .ok (.getfield 1, 3) := dk_180 0 1 (dk_at dksJ6_checkForComodification_0 1 rfl rfl)
theorem dJ6_checkForComodification_4 : decode cJ6_checkForComodification 4 = .ok (.getfield 17, 3) := dk_180 0 17 (dk_at dksJ6_checkForComodification_0 4 rfl rfl)
theorem dJ6_checkForComodification_7 : decode cJ6_checkForComodification 7 = .ok (.aload_n 0, 1) := dk_42 (dk_at dksJ6_checkForComodification_0 7 rfl rfl)
theorem dJ6_checkForComodification_8 : decode cJ6_checkForComodification 8 = .ok (.getfield 22, 3) := dk_180 0 22 (dk_at dksJ6_checkForComodification_0 8 rfl rfl)
theorem dJ6_checkForComodification_11 : decode cJ6_checkForComodification 11 = .ok (.if_icmp .eq 11, 3) := dk_159 0 11 (dk_at dksJ6_checkForComodification_0 11 rfl rfl)
theorem dJ6_checkForComodification_14 : decode cJ6_checkForComodification 14 = .ok (.new 41, 3) := dk_187 0 41 (dk_at dksJ6_checkForComodification_0 14 rfl rfl)
theorem dJ6_checkForComodification_17 : decode cJ6_checkForComodification 17 = .ok (.dup, 1) := dk_89 (dk_at dksJ6_checkForComodification_0 17 rfl rfl)
theorem dJ6_checkForComodification_18 : decode cJ6_checkForComodification 18 = .ok (.invokespecial 43, 3) := dk_183 0 43 (dk_at dksJ6_checkForComodification_0 18 rfl rfl)
theorem dJ6_checkForComodification_21 : decode cJ6_checkForComodification 21 = .ok (.athrow, 1) := dk_191 (dk_at dksJ6_checkForComodification_0 21 rfl rfl)
theorem dJ6_checkForComodification_22 : decode cJ6_checkForComodification 22 = .ok (.return_, 1) := dk_177 (dk_at dksJ6_checkForComodification_0 22 rfl rfl)
theorem q80 : (Jvm.Cond.initialized "java/util/ArrayList$Itr") ∈ lw_all := lw_g (lw_at lw_m1 17 rfl) rfl
theorem q148 : (Jvm.Cond.fieldLink "java/util/ArrayList$Itr" (37 : Nat) "java/util/ArrayList" "elementData" "[Ljava/lang/Object;") ∈ lw_all := lw_g (lw_at lw_m1 85 rfl) rfl
theorem q149 : (Jvm.Cond.fieldLinkNest "java/util/ArrayList$Itr" (28 : Nat) "java/util/ArrayList" "size" "I" "java/util/ArrayList") ∈ lw_tbl := lw_at lw_m1 86 rfl
theorem q152 : (Jvm.Cond.fieldLink "java/util/ArrayList$Itr" (17 : Nat) "java/util/ArrayList" "modCount" "I") ∈ lw_all := lw_g (lw_at lw_m1 89 rfl) rfl
theorem q273 : (Jvm.Cond.selects "java/util/ArrayList$Itr" ({ cls := "java/lang/Object", name := "getClass", desc := "()Ljava/lang/Class;" } : Jvm.MethodName) ({ cls := "java/lang/Object", name := "getClass", desc := "()Ljava/lang/Class;" } : Jvm.MethodName)) ∈ lw_all := lw_g (lw_at lw_m1 210 rfl) rfl
theorem q1449 : (Jvm.Cond.instantiable "java/util/ArrayList$Itr" (4 : Nat)) ∈ lw_all := lw_g (lw_at lw_m6 186 rfl) rfl
theorem q1451 : (Jvm.Cond.instanceMethod ({ cls := "java/util/ArrayList$Itr", name := "<init>", desc := "(Ljava/util/ArrayList;)V" } : Jvm.MethodName)) ∈ lw_all := lw_g (lw_at lw_m6 188 rfl) rfl
theorem q1452 : (Jvm.Cond.code ({ cls := "java/util/ArrayList$Itr", name := "<init>", desc := "(Ljava/util/ArrayList;)V" } : Jvm.MethodName) prog_46_method_1_code (2 : Nat) (Option.none : Option Jvm.ClassFile.FieldType)) ∈ lw_all := lw_g (lw_at lw_m6 189 rfl) rfl
theorem q1453 : (Jvm.Cond.methodLink "java/util/ArrayList$Itr" (7 : Nat) ({ cls := "java/lang/Object", name := "<init>", desc := "()V" } : Jvm.MethodName)) ∈ lw_all := lw_g (lw_at lw_m6 190 rfl) rfl
theorem q1454 : (Jvm.Cond.fieldLink "java/util/ArrayList$Itr" (25 : Nat) "java/util/ArrayList$Itr" "cursor" "I") ∈ lw_all := lw_g (lw_at lw_m6 191 rfl) rfl
theorem q1455 : (Jvm.Cond.fieldLink "java/util/ArrayList$Itr" (13 : Nat) "java/util/ArrayList$Itr" "lastRet" "I") ∈ lw_all := lw_g (lw_at lw_m6 192 rfl) rfl
theorem q1456 : (Jvm.Cond.fieldLink "java/util/ArrayList$Itr" (22 : Nat) "java/util/ArrayList$Itr" "expectedModCount" "I") ∈ lw_all := lw_g (lw_at lw_m6 193 rfl) rfl
theorem q1457 : (Jvm.Cond.fieldLink "java/util/ArrayList$Itr" (1 : Nat) "java/util/ArrayList$Itr" "this$0" "Ljava/util/ArrayList;") ∈ lw_all := lw_g (lw_at lw_m6 194 rfl) rfl
theorem q1458 : (Jvm.Cond.lays "java/util/ArrayList$Itr" "java/util/ArrayList$Itr" "cursor" "I") ∈ lw_all := lw_g (lw_at lw_m6 195 rfl) rfl
theorem q1459 : (Jvm.Cond.soleField "java/util/ArrayList$Itr" "cursor") ∈ lw_all := lw_g (lw_at lw_m6 196 rfl) rfl
theorem q1460 : (Jvm.Cond.lays "java/util/ArrayList$Itr" "java/util/ArrayList$Itr" "lastRet" "I") ∈ lw_all := lw_g (lw_at lw_m6 197 rfl) rfl
theorem q1461 : (Jvm.Cond.soleField "java/util/ArrayList$Itr" "lastRet") ∈ lw_all := lw_g (lw_at lw_m6 198 rfl) rfl
theorem q1462 : (Jvm.Cond.lays "java/util/ArrayList$Itr" "java/util/ArrayList$Itr" "expectedModCount" "I") ∈ lw_all := lw_g (lw_at lw_m6 199 rfl) rfl
theorem q1463 : (Jvm.Cond.soleField "java/util/ArrayList$Itr" "expectedModCount") ∈ lw_all := lw_g (lw_at lw_m6 200 rfl) rfl
theorem q1464 : (Jvm.Cond.laysFinal "java/util/ArrayList$Itr" "java/util/ArrayList$Itr" "this$0" "Ljava/util/ArrayList;") ∈ lw_all := lw_g (lw_at lw_m6 201 rfl) rfl
theorem q1465 : (Jvm.Cond.soleField "java/util/ArrayList$Itr" "this$0") ∈ lw_all := lw_g (lw_at lw_m6 202 rfl) rfl
theorem q1466 : (Jvm.Cond.superclass "java/util/ArrayList$Itr" "java/lang/Object") ∈ lw_all := lw_g (lw_at lw_m6 203 rfl) rfl
theorem q1471 : (Jvm.Cond.castable "java/util/ArrayList$Itr" "java/util/Iterator") ∈ lw_tbl := lw_at lw_m6 208 rfl
theorem q1472 : (Jvm.Cond.selects "java/util/ArrayList$Itr" ({ cls := "java/util/Iterator", name := "hasNext", desc := "()Z" } : Jvm.MethodName) ({ cls := "java/util/ArrayList$Itr", name := "hasNext", desc := "()Z" } : Jvm.MethodName)) ∈ lw_all := lw_g (lw_at lw_m6 209 rfl) rfl
theorem q1473 : (Jvm.Cond.unhidden "java/util/ArrayList$Itr" "hasNext" "()Z") ∈ lw_tbl := lw_at lw_m6 210 rfl
theorem q1474 : (Jvm.Cond.instanceMethod ({ cls := "java/util/ArrayList$Itr", name := "hasNext", desc := "()Z" } : Jvm.MethodName)) ∈ lw_all := lw_g (lw_at lw_m6 211 rfl) rfl
theorem q1475 : (Jvm.Cond.publicMethod ({ cls := "java/util/ArrayList$Itr", name := "hasNext", desc := "()Z" } : Jvm.MethodName)) ∈ lw_tbl := lw_at lw_m6 212 rfl
theorem q1476 : (Jvm.Cond.code ({ cls := "java/util/ArrayList$Itr", name := "hasNext", desc := "()Z" } : Jvm.MethodName) prog_46_method_2_code (1 : Nat) (Option.some Jvm.ClassFile.FieldType.boolean)) ∈ lw_all := lw_g (lw_at lw_m6 213 rfl) rfl
theorem q1481 : (Jvm.Cond.selects "java/util/ArrayList$Itr" ({ cls := "java/util/Iterator", name := "next", desc := "()Ljava/lang/Object;" } : Jvm.MethodName) ({ cls := "java/util/ArrayList$Itr", name := "next", desc := "()Ljava/lang/Object;" } : Jvm.MethodName)) ∈ lw_all := lw_g (lw_at lw_m6 218 rfl) rfl
theorem q1482 : (Jvm.Cond.unhidden "java/util/ArrayList$Itr" "next" "()Ljava/lang/Object;") ∈ lw_tbl := lw_at lw_m6 219 rfl
theorem q1483 : (Jvm.Cond.instanceMethod ({ cls := "java/util/ArrayList$Itr", name := "next", desc := "()Ljava/lang/Object;" } : Jvm.MethodName)) ∈ lw_all := lw_g (lw_at lw_m6 220 rfl) rfl
theorem q1484 : (Jvm.Cond.publicMethod ({ cls := "java/util/ArrayList$Itr", name := "next", desc := "()Ljava/lang/Object;" } : Jvm.MethodName)) ∈ lw_tbl := lw_at lw_m6 221 rfl
theorem q1485 : (Jvm.Cond.code ({ cls := "java/util/ArrayList$Itr", name := "next", desc := "()Ljava/lang/Object;" } : Jvm.MethodName) prog_46_method_3_code (3 : Nat) (Option.some (Jvm.ClassFile.FieldType.object "java/lang/Object"))) ∈ lw_all := lw_g (lw_at lw_m6 222 rfl) rfl
theorem q1486 : (Jvm.Cond.methodLink "java/util/ArrayList$Itr" (31 : Nat) ({ cls := "java/util/ArrayList$Itr", name := "checkForComodification", desc := "()V" } : Jvm.MethodName)) ∈ lw_all := lw_g (lw_at lw_m6 223 rfl) rfl
theorem q1487 : (Jvm.Cond.instanceMethod ({ cls := "java/util/ArrayList$Itr", name := "checkForComodification", desc := "()V" } : Jvm.MethodName)) ∈ lw_all := lw_g (lw_at lw_m6 224 rfl) rfl
theorem q1488 : (Jvm.Cond.selects "java/util/ArrayList$Itr" ({ cls := "java/util/ArrayList$Itr", name := "checkForComodification", desc := "()V" } : Jvm.MethodName) ({ cls := "java/util/ArrayList$Itr", name := "checkForComodification", desc := "()V" } : Jvm.MethodName)) ∈ lw_all := lw_g (lw_at lw_m6 225 rfl) rfl
theorem q1489 : (Jvm.Cond.code ({ cls := "java/util/ArrayList$Itr", name := "checkForComodification", desc := "()V" } : Jvm.MethodName) prog_46_method_6_code (1 : Nat) (Option.none : Option Jvm.ClassFile.FieldType)) ∈ lw_all := lw_g (lw_at lw_m6 226 rfl) rfl
theorem q2072 : (Jvm.Cond.castable "java/util/ArrayList$Itr" "java/lang/Object") ∈ lw_tbl := lw_at lw_m9 89 rfl
theorem in_J6 : ∀ w ∈ wsJ60, w ∈ lw_all := lw_in wsJ60 [1458, 1460, 1462, 1464] (by decide +kernel) (by decide +kernel)
/-! java/lang/Number -/
set_option maxRecDepth 100000
def RJ7 : String := "java/lang/Number"
abbrev cJ7_init : ByteArray := prog_33_method_1_code
def yJ7_init : MethodName := ⟨RJ7, "<init>", "()V"⟩
theorem dJ7_init_0 : decode cJ7_init 0 = .ok (.aload_n 0, 1) := by decide +kernel
theorem dJ7_init_1 : decode cJ7_init 1 = .ok (.invokespecial 1, 3) := by decide +kernel
theorem dJ7_init_4 : decode cJ7_init 4 = .ok (.return_, 1) := by decide +kernel
theorem q81 : (Jvm.Cond.initialized "java/lang/Number") ∈ lw_all := lw_g (lw_at lw_m1 18 rfl) rfl
theorem q1503 : (Jvm.Cond.instanceMethod ({ cls := "java/lang/Number", name := "<init>", desc := "()V" } : Jvm.MethodName)) ∈ lw_all := lw_g (lw_at lw_m7 0 rfl) rfl
theorem q1504 : (Jvm.Cond.code ({ cls := "java/lang/Number", name := "<init>", desc := "()V" } : Jvm.MethodName) prog_33_method_1_code (1 : Nat) (Option.none : Option Jvm.ClassFile.FieldType)) ∈ lw_all := lw_g (lw_at lw_m7 1 rfl) rfl
theorem q1505 : (Jvm.Cond.methodLink "java/lang/Number" (1 : Nat) ({ cls := "java/lang/Object", name := "<init>", desc := "()V" } : Jvm.MethodName)) ∈ lw_all := lw_g (lw_at lw_m7 2 rfl) rfl
/-! java/lang/Integer -/
set_option maxRecDepth 100000
def RJ8 : String := "java/lang/Integer"
def TJ8 : u_T := fun k => match k with
  | _ => ("java/lang/Integer", "value", "I", true)
def tyJ8 : Nat → FieldType := fun k => match k with
  | _ => .int
abbrev wsJ80 : List Cond := u_ws RJ8 TJ8 1
theorem nmJ8 : ∀ a, a < 1 → ∀ b, b < 1 → a ≠ b → (TJ8 a).2.1 ≠ (TJ8 b).2.1 := by decide +kernel
theorem tyJ8_ok : ∀ k, k < 1 → parseFieldDescriptor (TJ8 k).2.2.1 = some (tyJ8 k) := by decide +kernel
abbrev cJ8_stringSize : ByteArray := prog_29_method_13_code
def yJ8_stringSize : MethodName := ⟨RJ8, "stringSize", "(I)I"⟩
def dkwJ8_stringSize_1 : List UInt8 := [164, 0, 7, 29, 27, 96, 172, 16, 10, 28, 104, 61, 132, 3, 1, 167, 255, 233, 16, 10, 27, 96, 172]
abbrev dktJ8_stringSize_1 : List UInt8 := dkwJ8_stringSize_1 ++ []
def dkwJ8_stringSize_0 : List UInt8 := [4, 60, 26, 155, 0, 8, 3, 60, 26, 116, 59, 16, 246, 61, 4, 62, 29, 16, 10, 162, 0, 23, 26, 28]
abbrev dktJ8_stringSize_0 : List UInt8 := dkwJ8_stringSize_0 ++ dktJ8_stringSize_1
theorem dksJ8_stringSize_0 : cJ8_stringSize.data.toList.drop 0 = dktJ8_stringSize_0 := by decide +kernel
theorem dksJ8_stringSize_1 : cJ8_stringSize.data.toList.drop 24 = dktJ8_stringSize_1 := dk_seg dksJ8_stringSize_0 24 rfl rfl
theorem dJ8_stringSize_0 : decode cJ8_stringSize 0 = .ok (.iconst 1, 1) := dk_4 (dk_at dksJ8_stringSize_0 0 rfl rfl)
theorem dJ8_stringSize_1 : decode cJ8_stringSize 1 = .ok (.istore_n 1, 1) := dk_60 (dk_at dksJ8_stringSize_0 1 rfl rfl)
theorem dJ8_stringSize_2 : decode cJ8_stringSize 2 = .ok (.iload_n 0, 1) := dk_26 (dk_at dksJ8_stringSize_0 2 rfl rfl)
theorem dJ8_stringSize_3 : decode cJ8_stringSize 3 = .ok (.ifCond .lt 8, 3) := dk_155 0 8 (dk_at dksJ8_stringSize_0 3 rfl rfl)
theorem dJ8_stringSize_6 : decode cJ8_stringSize 6 = .ok (.iconst 0, 1) := dk_3 (dk_at dksJ8_stringSize_0 6 rfl rfl)
theorem dJ8_stringSize_7 : decode cJ8_stringSize 7 = .ok (.istore_n 1, 1) := dk_60 (dk_at dksJ8_stringSize_0 7 rfl rfl)
theorem dJ8_stringSize_8 : decode cJ8_stringSize 8 = .ok (.iload_n 0, 1) := dk_26 (dk_at dksJ8_stringSize_0 8 rfl rfl)
theorem dJ8_stringSize_9 : decode cJ8_stringSize 9 = .ok (.ineg, 1) := dk_116 (dk_at dksJ8_stringSize_0 9 rfl rfl)
theorem dJ8_stringSize_10 : decode cJ8_stringSize 10 = .ok (.istore_n 0, 1) := dk_59 (dk_at dksJ8_stringSize_0 10 rfl rfl)
theorem dJ8_stringSize_11 : decode cJ8_stringSize 11 = .ok (.bipush (-10), 2) := dk_16 246 (dk_at dksJ8_stringSize_0 11 rfl rfl)
theorem dJ8_stringSize_13 : decode cJ8_stringSize 13 = .ok (.istore_n 2, 1) := dk_61 (dk_at dksJ8_stringSize_0 13 rfl rfl)
theorem dJ8_stringSize_14 : decode cJ8_stringSize 14 = .ok (.iconst 1, 1) := dk_4 (dk_at dksJ8_stringSize_0 14 rfl rfl)
theorem dJ8_stringSize_15 : decode cJ8_stringSize 15 = .ok (.istore_n 3, 1) := dk_62 (dk_at dksJ8_stringSize_0 15 rfl rfl)
theorem dJ8_stringSize_16 : decode cJ8_stringSize 16 = .ok (.iload_n 3, 1) := dk_29 (dk_at dksJ8_stringSize_0 16 rfl rfl)
theorem dJ8_stringSize_17 : decode cJ8_stringSize 17 = .ok (.bipush 10, 2) := dk_16 10 (dk_at dksJ8_stringSize_0 17 rfl rfl)
theorem dJ8_stringSize_19 : decode cJ8_stringSize 19 = .ok (.if_icmp .ge 23, 3) := dk_162 0 23 (dk_at dksJ8_stringSize_0 19 rfl rfl)
theorem dJ8_stringSize_22 : decode cJ8_stringSize 22 = .ok (.iload_n 0, 1) := dk_26 (dk_at dksJ8_stringSize_0 22 rfl rfl)
theorem dJ8_stringSize_23 : decode cJ8_stringSize 23 = .ok (.iload_n 2, 1) := dk_28 (dk_at dksJ8_stringSize_0 23 rfl rfl)
theorem dJ8_stringSize_24 : decode cJ8_stringSize 24 = .ok (.if_icmp .le 7, 3) := dk_164 0 7 (dk_at dksJ8_stringSize_1 0 rfl rfl)
theorem dJ8_stringSize_27 : decode cJ8_stringSize 27 = .ok (.iload_n 3, 1) := dk_29 (dk_at dksJ8_stringSize_1 3 rfl rfl)
theorem dJ8_stringSize_28 : decode cJ8_stringSize 28 = .ok (.iload_n 1, 1) := dk_27 (dk_at dksJ8_stringSize_1 4 rfl rfl)
theorem dJ8_stringSize_29 : decode cJ8_stringSize 29 = .ok (.iadd, 1) := dk_96 (dk_at dksJ8_stringSize_1 5 rfl rfl)
theorem dJ8_stringSize_30 : decode cJ8_stringSize 30 = .ok (.ireturn, 1) := dk_172 (dk_at dksJ8_stringSize_1 6 rfl rfl)
theorem dJ8_stringSize_31 : decode cJ8_stringSize 31 = .ok (.bipush 10, 2) := dk_16 10 (dk_at dksJ8_stringSize_1 7 rfl rfl)
theorem dJ8_stringSize_33 : decode cJ8_stringSize 33 = .ok (.iload_n 2, 1) := dk_28 (dk_at dksJ8_stringSize_1 9 rfl rfl)
theorem dJ8_stringSize_34 : decode cJ8_stringSize 34 = .ok (.imul, 1) := dk_104 (dk_at dksJ8_stringSize_1 10 rfl rfl)
theorem dJ8_stringSize_35 : decode cJ8_stringSize 35 = .ok (.istore_n 2, 1) := dk_61 (dk_at dksJ8_stringSize_1 11 rfl rfl)
theorem dJ8_stringSize_36 : decode cJ8_stringSize 36 = .ok (.iinc 3 1, 3) := dk_132 3 1 (dk_at dksJ8_stringSize_1 12 rfl rfl)
theorem dJ8_stringSize_39 : decode cJ8_stringSize 39 = .ok (.goto (-23), 3) := dk_167 255 233 (dk_at dksJ8_stringSize_1 15 rfl rfl)
theorem dJ8_stringSize_42 : decode cJ8_stringSize 42 = .ok (.bipush 10, 2) := dk_16 10 (dk_at dksJ8_stringSize_1 18 rfl rfl)
theorem dJ8_stringSize_44 : decode cJ8_stringSize 44 = .ok (.iload_n 1, 1) := dk_27 (dk_at dksJ8_stringSize_1 20 rfl rfl)
theorem dJ8_stringSize_45 : decode cJ8_stringSize 45 = .ok (.iadd, 1) := dk_96 (dk_at dksJ8_stringSize_1 21 rfl rfl)
theorem dJ8_stringSize_46 : decode cJ8_stringSize 46 = .ok (.ireturn, 1) := dk_172 (dk_at dksJ8_stringSize_1 22 rfl rfl)
abbrev cJ8_getChars : ByteArray := prog_29_method_12_code
def yJ8_getChars : MethodName := ⟨RJ8, "getChars", "(II[B)I"⟩
def dkwJ8_getChars_5 : List UInt8 := [16, 45, 84, 21, 5, 172]
abbrev dktJ8_getChars_5 : List UInt8 := dkwJ8_getChars_5 ++ []
def dkwJ8_getChars_4 : List UInt8 := [132, 5, 255, 21, 5, 178, 0, 87, 26, 116, 51, 84, 21, 6, 153, 0, 12, 44, 132, 5, 255, 21, 5]
abbrev dktJ8_getChars_4 : List UInt8 := dkwJ8_getChars_4 ++ dktJ8_getChars_5
def dkwJ8_getChars_3 : List UInt8 := [167, 255, 209, 44, 132, 5, 255, 21, 5, 178, 0, 83, 26, 116, 51, 84, 26, 16, 247, 162, 0, 16, 44]
abbrev dktJ8_getChars_3 : List UInt8 := dkwJ8_getChars_3 ++ dktJ8_getChars_4
def dkwJ8_getChars_2 : List UInt8 := [21, 5, 178, 0, 83, 21, 4, 51, 84, 44, 132, 5, 255, 21, 5, 178, 0, 87, 21, 4, 51, 84]
abbrev dktJ8_getChars_2 : List UInt8 := dkwJ8_getChars_2 ++ dktJ8_getChars_3
def dkwJ8_getChars_1 : List UInt8 := [16, 156, 163, 0, 47, 26, 16, 100, 108, 62, 29, 16, 100, 104, 26, 100, 54, 4, 29, 59, 44, 132, 5, 255]
abbrev dktJ8_getChars_1 : List UInt8 := dkwJ8_getChars_1 ++ dktJ8_getChars_2
def dkwJ8_getChars_0 : List UInt8 := [27, 54, 5, 26, 156, 0, 7, 4, 167, 0, 4, 3, 54, 6, 21, 6, 154, 0, 6, 26, 116, 59, 26]
abbrev dktJ8_getChars_0 : List UInt8 := dkwJ8_getChars_0 ++ dktJ8_getChars_1
theorem dksJ8_getChars_0 : cJ8_getChars.data.toList.drop 0 = dktJ8_getChars_0 := by decide +kernel
theorem dksJ8_getChars_1 : cJ8_getChars.data.toList.drop 23 = dktJ8_getChars_1 := dk_seg dksJ8_getChars_0 23 rfl rfl
theorem dksJ8_getChars_2 : cJ8_getChars.data.toList.drop 47 = dktJ8_getChars_2 := dk_seg dksJ8_getChars_1 24 rfl rfl
theorem dksJ8_getChars_3 : cJ8_getChars.data.toList.drop 69 = dktJ8_getChars_3 := dk_seg dksJ8_getChars_2 22 rfl rfl
theorem dksJ8_getChars_4 : cJ8_getChars.data.toList.drop 92 = dktJ8_getChars_4 := dk_seg dksJ8_getChars_3 23 rfl rfl
theorem dksJ8_getChars_5 : cJ8_getChars.data.toList.drop 115 = dktJ8_getChars_5 := dk_seg dksJ8_getChars_4 23 rfl rfl
theorem dJ8_getChars_0 : decode cJ8_getChars 0 = .ok (.iload_n 1, 1) := dk_27 (dk_at dksJ8_getChars_0 0 rfl rfl)
theorem dJ8_getChars_1 : decode cJ8_getChars 1 = .ok (.istore 5, 2) := dk_54 5 (dk_at dksJ8_getChars_0 1 rfl rfl)
theorem dJ8_getChars_3 : decode cJ8_getChars 3 = .ok (.iload_n 0, 1) := dk_26 (dk_at dksJ8_getChars_0 3 rfl rfl)
theorem dJ8_getChars_4 : decode cJ8_getChars 4 = .ok (.ifCond .ge 7, 3) := dk_156 0 7 (dk_at dksJ8_getChars_0 4 rfl rfl)
theorem dJ8_getChars_7 : decode cJ8_getChars 7 = .ok (.iconst 1, 1) := dk_4 (dk_at dksJ8_getChars_0 7 rfl rfl)
theorem dJ8_getChars_8 : decode cJ8_getChars 8 = .ok (.goto 4, 3) := dk_167 0 4 (dk_at dksJ8_getChars_0 8 rfl rfl)
theorem dJ8_getChars_11 : decode cJ8_getChars 11 = .ok (.iconst 0, 1) := dk_3 (dk_at dksJ8_getChars_0 11 rfl rfl)
theorem dJ8_getChars_12 : decode cJ8_getChars 12 = .ok (.istore 6, 2) := dk_54 6 (dk_at dksJ8_getChars_0 12 rfl rfl)
theorem dJ8_getChars_14 : decode cJ8_getChars 14 = .ok (.iload 6, 2) := dk_21 6 (dk_at dksJ8_getChars_0 14 rfl rfl)
theorem dJ8_getChars_16 : decode cJ8_getChars 16 = .ok (.ifCond .ne 6, 3) := dk_154 0 6 (dk_at dksJ8_getChars_0 16 rfl rfl)
theorem dJ8_getChars_19 : decode cJ8_getChars 19 = .ok (.iload_n 0, 1) := dk_26 (dk_at dksJ8_getChars_0 19 rfl rfl)
theorem dJ8_getChars_20 : decode cJ8_getChars 20 = .ok (.ineg, 1) := dk_116 (dk_at dksJ8_getChars_0 20 rfl rfl)
theorem dJ8_getChars_21 : decode cJ8_getChars 21 = .ok (.istore_n 0, 1) := dk_59 (dk_at dksJ8_getChars_0 21 rfl rfl)
theorem dJ8_getChars_22 : decode cJ8_getChars 22 = .ok (.iload_n 0, 1) := dk_26 (dk_at dksJ8_getChars_0 22 rfl rfl)
theorem dJ8_getChars_23 : decode cJ8_getChars 23 = .ok (.bipush (-100), 2) := dk_16 156 (dk_at dksJ8_getChars_1 0 rfl rfl)
theorem dJ8_getChars_25 : decode cJ8_getChars 25 = .ok (.if_icmp .gt 47, 3) := dk_163 0 47 (dk_at dksJ8_getChars_1 2 rfl rfl)
theorem dJ8_getChars_28 : decode cJ8_getChars 28 = .ok (.iload_n 0, 1) := dk_26 (dk_at dksJ8_getChars_1 5 rfl rfl)
theorem dJ8_getChars_29 : decode cJ8_getChars 29 = .ok (.bipush 100, 2) := dk_16 100 (dk_at dksJ8_getChars_1 6 rfl rfl)
theorem dJ8_getChars_31 : decode cJ8_getChars 31 = .ok (.idiv, 1) := dk_108 (dk_at dksJ8_getChars_1 8 rfl rfl)
theorem dJ8_getChars_32 : decode cJ8_getChars 32 = .ok (.istore_n 3, 1) := dk_62 (dk_at dksJ8_getChars_1 9 rfl rfl)
theorem dJ8_getChars_33 : decode cJ8_getChars 33 = .ok (.iload_n 3, 1) := dk_29 (dk_at dksJ8_getChars_1 10 rfl rfl)
theorem dJ8_getChars_34 : decode cJ8_getChars 34 = .ok (.bipush 100, 2) := dk_16 100 (dk_at dksJ8_getChars_1 11 rfl rfl)
theorem dJ8_getChars_36 : decode cJ8_getChars 36 = .ok (.imul, 1) := dk_104 (dk_at dksJ8_getChars_1 13 rfl rfl)
theorem dJ8_getChars_37 : decode cJ8_getChars 37 = .ok (.iload_n 0, 1) := dk_26 (dk_at dksJ8_getChars_1 14 rfl rfl)
theorem dJ8_getChars_38 : decode cJ8_getChars 38 = .ok (.isub, 1) := dk_100 (dk_at dksJ8_getChars_1 15 rfl rfl)
theorem dJ8_getChars_39 : decode cJ8_getChars 39 = .ok (.istore 4, 2) := dk_54 4 (dk_at dksJ8_getChars_1 16 rfl rfl)
theorem dJ8_getChars_41 : decode cJ8_getChars 41 = .ok (.iload_n 3, 1) := dk_29 (dk_at dksJ8_getChars_1 18 rfl rfl)
theorem dJ8_getChars_42 : decode cJ8_getChars 42 = .ok (.istore_n 0, 1) := dk_59 (dk_at dksJ8_getChars_1 19 rfl rfl)
theorem dJ8_getChars_43 : decode cJ8_getChars 43 = .ok (.aload_n 2, 1) := dk_44 (dk_at dksJ8_getChars_1 20 rfl rfl)
theorem dJ8_getChars_44 : decode cJ8_getChars 44 = .ok (.iinc 5 (-1), 3) := dk_132 5 255 (dk_at dksJ8_getChars_1 21 rfl rfl)
theorem dJ8_getChars_47 : decode cJ8_getChars 47 = .ok (.iload 5, 2) := dk_21 5 (dk_at dksJ8_getChars_2 0 rfl rfl)
theorem dJ8_getChars_49 : decode cJ8_getChars 49 = .ok (.getstatic 83, 3) := dk_178 0 83 (dk_at dksJ8_getChars_2 2 rfl rfl)
theorem dJ8_getChars_52 : decode cJ8_getChars 52 = .ok (.iload 4, 2) := dk_21 4 (dk_at dksJ8_getChars_2 5 rfl rfl)
theorem dJ8_getChars_54 : decode cJ8_getChars 54 = .ok (.baload, 1) := dk_51 (dk_at dksJ8_getChars_2 7 rfl rfl)
theorem dJ8_getChars_55 : decode cJ8_getChars 55 = .ok (.bastore, 1) := dk_84 (dk_at dksJ8_getChars_2 8 rfl rfl)
theorem dJ8_getChars_56 : decode cJ8_getChars 56 = .ok (.aload_n 2, 1) := dk_44 (dk_at dksJ8_getChars_2 9 rfl rfl)
theorem dJ8_getChars_57 : decode cJ8_getChars 57 = .ok (.iinc 5 (-1), 3) := dk_132 5 255 (dk_at dksJ8_getChars_2 10 rfl rfl)
theorem dJ8_getChars_60 : decode cJ8_getChars 60 = .ok (.iload 5, 2) := dk_21 5 (dk_at dksJ8_getChars_2 13 rfl rfl)
theorem dJ8_getChars_62 : decode cJ8_getChars 62 = .ok (.getstatic 87, 3) := dk_178 0 87 (dk_at dksJ8_getChars_2 15 rfl rfl)
theorem dJ8_getChars_65 : decode cJ8_getChars 65 = .ok (.iload 4, 2) := dk_21 4 (dk_at dksJ8_getChars_2 18 rfl rfl)
theorem dJ8_getChars_67 : decode cJ8_getChars 67 = .ok (.baload, 1) := dk_51 (dk_at dksJ8_getChars_2 20 rfl rfl)
theorem dJ8_getChars_68 : decode cJ8_getChars 68 = .ok (.bastore, 1) := dk_84 (dk_at dksJ8_getChars_2 21 rfl rfl)
theorem dJ8_getChars_69 : decode cJ8_getChars 69 = .ok (.goto (-47), 3) := dk_167 255 209 (dk_at dksJ8_getChars_3 0 rfl rfl)
theorem dJ8_getChars_72 : decode cJ8_getChars 72 = .ok (.aload_n 2, 1) := dk_44 (dk_at dksJ8_getChars_3 3 rfl rfl)
theorem dJ8_getChars_73 : decode cJ8_getChars 73 = .ok (.iinc 5 (-1), 3) := dk_132 5 255 (dk_at dksJ8_getChars_3 4 rfl rfl)
theorem dJ8_getChars_76 : decode cJ8_getChars 76 = .ok (.iload 5, 2) := dk_21 5 (dk_at dksJ8_getChars_3 7 rfl rfl)
theorem dJ8_getChars_78 : decode cJ8_getChars 78 = .ok (.getstatic 83, 3) := dk_178 0 83 (dk_at dksJ8_getChars_3 9 rfl rfl)
theorem dJ8_getChars_81 : decode cJ8_getChars 81 = .ok (.iload_n 0, 1) := dk_26 (dk_at dksJ8_getChars_3 12 rfl rfl)
theorem dJ8_getChars_82 : decode cJ8_getChars 82 = .ok (.ineg, 1) := dk_116 (dk_at dksJ8_getChars_3 13 rfl rfl)
theorem dJ8_getChars_83 : decode cJ8_getChars 83 = .ok (.baload, 1) := dk_51 (dk_at dksJ8_getChars_3 14 rfl rfl)
theorem dJ8_getChars_84 : decode cJ8_getChars 84 = .ok (.bastore, 1) := dk_84 (dk_at dksJ8_getChars_3 15 rfl rfl)
theorem dJ8_getChars_85 : decode cJ8_getChars 85 = .ok (.iload_n 0, 1) := dk_26 (dk_at dksJ8_getChars_3 16 rfl rfl)
theorem dJ8_getChars_86 : decode cJ8_getChars 86 = .ok (.bipush (-9), 2) := dk_16 247 (dk_at dksJ8_getChars_3 17 rfl rfl)
theorem dJ8_getChars_88 : decode cJ8_getChars 88 = .ok (.if_icmp .ge 16, 3) := dk_162 0 16 (dk_at dksJ8_getChars_3 19 rfl rfl)
theorem dJ8_getChars_91 : decode cJ8_getChars 91 = .ok (.aload_n 2, 1) := dk_44 (dk_at dksJ8_getChars_3 22 rfl rfl)
theorem dJ8_getChars_92 : decode cJ8_getChars 92 = .ok (.iinc 5 (-1), 3) := dk_132 5 255 (dk_at dksJ8_getChars_4 0 rfl rfl)
theorem dJ8_getChars_95 : decode cJ8_getChars 95 = .ok (.iload 5, 2) := dk_21 5 (dk_at dksJ8_getChars_4 3 rfl rfl)
theorem dJ8_getChars_97 : decode cJ8_getChars 97 = .ok (.getstatic 87, 3) := dk_178 0 87 (dk_at dksJ8_getChars_4 5 rfl rfl)
theorem dJ8_getChars_100 : decode cJ8_getChars 100 = .ok (.iload_n 0, 1) := dk_26 (dk_at dksJ8_getChars_4 8 rfl rfl)
theorem dJ8_getChars_101 : decode cJ8_getChars 101 = .ok (.ineg, 1) := dk_116 (dk_at dksJ8_getChars_4 9 rfl rfl)
theorem dJ8_getChars_102 : decode cJ8_getChars 102 = .ok (.baload, 1) := dk_51 (dk_at dksJ8_getChars_4 10 rfl rfl)
theorem dJ8_getChars_103 : decode cJ8_getChars 103 = .ok (.bastore, 1) := dk_84 (dk_at dksJ8_getChars_4 11 rfl rfl)
theorem dJ8_getChars_104 : decode cJ8_getChars 104 = .ok (.iload 6, 2) := dk_21 6 (dk_at dksJ8_getChars_4 12 rfl rfl)
theorem dJ8_getChars_106 : decode cJ8_getChars 106 = .ok (.ifCond .eq 12, 3) := dk_153 0 12 (dk_at dksJ8_getChars_4 14 rfl rfl)
theorem dJ8_getChars_109 : decode cJ8_getChars 109 = .ok (.aload_n 2, 1) := dk_44 (dk_at dksJ8_getChars_4 17 rfl rfl)
theorem dJ8_getChars_110 : decode cJ8_getChars 110 = .ok (.iinc 5 (-1), 3) := dk_132 5 255 (dk_at dksJ8_getChars_4 18 rfl rfl)
theorem dJ8_getChars_113 : decode cJ8_getChars 113 = .ok (.iload 5, 2) := dk_21 5 (dk_at dksJ8_getChars_4 21 rfl rfl)
theorem dJ8_getChars_115 : decode cJ8_getChars 115 = .ok (.bipush 45, 2) := dk_16 45 (dk_at dksJ8_getChars_5 0 rfl rfl)
theorem dJ8_getChars_117 : decode cJ8_getChars 117 = .ok (.bastore, 1) := dk_84 (dk_at dksJ8_getChars_5 2 rfl rfl)
theorem dJ8_getChars_118 : decode cJ8_getChars 118 = .ok (.iload 5, 2) := dk_21 5 (dk_at dksJ8_getChars_5 3 rfl rfl)
theorem dJ8_getChars_120 : decode cJ8_getChars 120 = .ok (.ireturn, 1) := dk_172 (dk_at dksJ8_getChars_5 5 rfl rfl)
abbrev cJ8_valueOf : ByteArray := prog_29_method_22_code
def yJ8_valueOf : MethodName := ⟨RJ8, "valueOf", "(I)Ljava/lang/Integer;"⟩
def dkwJ8_valueOf_1 : List UInt8 := [187, 0, 1, 89, 26, 183, 0, 199, 176]
abbrev dktJ8_valueOf_1 : List UInt8 := dkwJ8_valueOf_1 ++ []
def dkwJ8_valueOf_0 : List UInt8 := [26, 16, 128, 161, 0, 20, 26, 178, 0, 191, 163, 0, 13, 178, 0, 195, 26, 17, 0, 128, 96, 50, 176]
abbrev dktJ8_valueOf_0 : List UInt8 := dkwJ8_valueOf_0 ++ dktJ8_valueOf_1
theorem dksJ8_valueOf_0 : cJ8_valueOf.data.toList.drop 0 = dktJ8_valueOf_0 := by decide +kernel
theorem dksJ8_valueOf_1 : cJ8_valueOf.data.toList.drop 23 = dktJ8_valueOf_1 := dk_seg dksJ8_valueOf_0 23 rfl rfl
theorem dJ8_valueOf_0 : decode cJ8_valueOf 0 = .ok (.iload_n 0, 1) := dk_26 (dk_at dksJ8_valueOf_0 0 rfl rfl)
theorem dJ8_valueOf_1 : decode cJ8_valueOf 1 = .ok (.bipush (-128), 2) := dk_16 128 (dk_at dksJ8_valueOf_0 1 rfl rfl)
theorem dJ8_valueOf_3 : decode cJ8_valueOf 3 = .ok (.if_icmp .lt 20, 3) := dk_161 0 20 (dk_at dksJ8_valueOf_0 3 rfl rfl)
theorem dJ8_valueOf_6 : decode cJ8_valueOf 6 = .ok (.iload_n 0, 1) := dk_26 (dk_at dksJ8_valueOf_0 6 rfl rfl)
theorem dJ8_valueOf_7 : decode cJ8_valueOf 7 = .ok (.getstatic 191, 3) := dk_178 0 191 (dk_at dksJ8_valueOf_0 7 rfl rfl)
theorem dJ8_valueOf_10 : decode cJ8_valueOf 10 = .ok (.if_icmp .gt 13, 3) := dk_163 0 13 (dk_at dksJ8_valueOf_0 10 rfl rfl)
theorem dJ8_valueOf_13 : decode cJ8_valueOf 13 = .ok (.getstatic 195, 3) := dk_178 0 195 (dk_at dksJ8_valueOf_0 13 rfl rfl)
theorem dJ8_valueOf_16 : decode cJ8_valueOf 16 = .ok (.iload_n 0, 1) := dk_26 (dk_at dksJ8_valueOf_0 16 rfl rfl)
theorem dJ8_valueOf_17 : decode cJ8_valueOf 17 = .ok (.sipush 128, 3) := dk_17 0 128 (dk_at dksJ8_valueOf_0 17 rfl rfl)
theorem dJ8_valueOf_20 : decode cJ8_valueOf 20 = .ok (.iadd, 1) := dk_96 (dk_at dksJ8_valueOf_0 20 rfl rfl)
theorem dJ8_valueOf_21 : decode cJ8_valueOf 21 = .ok (.aaload, 1) := dk_50 (dk_at dksJ8_valueOf_0 21 rfl rfl)
theorem dJ8_valueOf_22 : decode cJ8_valueOf 22 = .ok (.areturn, 1) := dk_176 (dk_at dksJ8_valueOf_0 22 rfl rfl)
theorem dJ8_valueOf_23 : decode cJ8_valueOf 23 = .ok (.new 1, 3) := dk_187 0 1 (dk_at dksJ8_valueOf_1 0 rfl rfl)
theorem dJ8_valueOf_26 : decode cJ8_valueOf 26 = .ok (.dup, 1) := dk_89 (dk_at dksJ8_valueOf_1 3 rfl rfl)
theorem dJ8_valueOf_27 : decode cJ8_valueOf 27 = .ok (.iload_n 0, 1) := dk_26 (dk_at dksJ8_valueOf_1 4 rfl rfl)
theorem dJ8_valueOf_28 : decode cJ8_valueOf 28 = .ok (.invokespecial 199, 3) := dk_183 0 199 (dk_at dksJ8_valueOf_1 5 rfl rfl)
theorem dJ8_valueOf_31 : decode cJ8_valueOf 31 = .ok (.areturn, 1) := dk_176 (dk_at dksJ8_valueOf_1 8 rfl rfl)
abbrev cJ8_init : ByteArray := prog_29_method_23_code
def yJ8_init : MethodName := ⟨RJ8, "<init>", "(I)V"⟩
def dkwJ8_init_0 : List UInt8 := [42, 183, 0, 202, 42, 27, 181, 0, 205, 177]
abbrev dktJ8_init_0 : List UInt8 := dkwJ8_init_0 ++ []
theorem dksJ8_init_0 : cJ8_init.data.toList.drop 0 = dktJ8_init_0 := by decide +kernel
theorem dJ8_init_0 : decode cJ8_init 0 = .ok (.aload_n 0, 1) := dk_42 (dk_at dksJ8_init_0 0 rfl rfl)
theorem dJ8_init_1 : decode cJ8_init 1 = .ok (.invokespecial 202, 3) := dk_183 0 202 (dk_at dksJ8_init_0 1 rfl rfl)
theorem dJ8_init_4 : decode cJ8_init 4 = .ok (.aload_n 0, 1) := dk_42 (dk_at dksJ8_init_0 4 rfl rfl)
theorem dJ8_init_5 : decode cJ8_init 5 = .ok (.iload_n 1, 1) := dk_27 (dk_at dksJ8_init_0 5 rfl rfl)
theorem dJ8_init_6 : decode cJ8_init 6 = .ok (.putfield 205, 3) := dk_181 0 205 (dk_at dksJ8_init_0 6 rfl rfl)
theorem dJ8_init_9 : decode cJ8_init 9 = .ok (.return_, 1) := dk_177 (dk_at dksJ8_init_0 9 rfl rfl)
abbrev cJ8_equals : ByteArray := prog_29_method_34_code
def yJ8_equals : MethodName := ⟨RJ8, "equals", "(Ljava/lang/Object;)Z"⟩
def dkwJ8_equals_1 : List UInt8 := [167, 0, 4, 3, 172, 3, 172]
abbrev dktJ8_equals_1 : List UInt8 := dkwJ8_equals_1 ++ []
def dkwJ8_equals_0 : List UInt8 := [43, 193, 0, 1, 153, 0, 23, 42, 180, 0, 205, 43, 192, 0, 1, 182, 0, 211, 160, 0, 7, 4]
abbrev dktJ8_equals_0 : List UInt8 := dkwJ8_equals_0 ++ dktJ8_equals_1
theorem dksJ8_equals_0 : cJ8_equals.data.toList.drop 0 = dktJ8_equals_0 := by decide +kernel
theorem dksJ8_equals_1 : cJ8_equals.data.toList.drop 22 = dktJ8_equals_1 := dk_seg dksJ8_equals_0 22 rfl rfl
theorem dJ8_equals_0 : decode cJ8_equals 0 = .ok (.aload_n 1, 1) := dk_43 (dk_at dksJ8_equals_0 0 rfl rfl)
theorem dJ8_equals_1 : decode cJ8_equals 1 = .ok (.instanceof 1, 3) := dk_193 0 1 (dk_at dksJ8_equals_0 1 rfl rfl)
theorem dJ8_equals_4 : decode cJ8_equals 4 = .ok (.ifCond .eq 23, 3) := dk_153 0 23 (dk_at dksJ8_equals_0 4 rfl rfl)
theorem dJ8_equals_7 : decode cJ8_equals 7 = .ok (.aload_n 0, 1) := dk_42 (dk_at dksJ8_equals_0 7 rfl rfl)
theorem dJ8_equals_8 : decode cJ8_equals 8 = .ok (.getfield 205, 3) := dk_180 0 205 (dk_at dksJ8_equals_0 8 rfl rfl)
theorem dJ8_equals_11 : decode cJ8_equals 11 = .ok (.aload_n 1, 1) := dk_43 (dk_at dksJ8_equals_0 11 rfl rfl)
theorem dJ8_equals_12 : decode cJ8_equals 12 = .ok (.checkcast 1, 3) := dk_192 0 1 (dk_at dksJ8_equals_0 12 rfl rfl)
theorem dJ8_equals_15 : decode cJ8_equals 15 = .ok (.invokevirtual 211, 3) := dk_182 0 211 (dk_at dksJ8_equals_0 15 rfl rfl)
theorem dJ8_equals_18 : decode cJ8_equals 18 = .ok (.if_icmp .ne 7, 3) := dk_160 0 7 (dk_at dksJ8_equals_0 18 rfl rfl)
theorem dJ8_equals_21 : decode cJ8_equals 21 = .ok (.iconst 1, 1) := dk_4 (dk_at dksJ8_equals_0 21 rfl rfl)
theorem dJ8_equals_22 : decode cJ8_equals 22 = .ok (.goto 4, 3) := dk_167 0 4 (dk_at dksJ8_equals_1 0 rfl rfl)
theorem dJ8_equals_25 : decode cJ8_equals 25 = .ok (.iconst 0, 1) := dk_3 (dk_at dksJ8_equals_1 3 rfl rfl)
theorem dJ8_equals_26 : decode cJ8_equals 26 = .ok (.ireturn, 1) := dk_172 (dk_at dksJ8_equals_1 4 rfl rfl)
theorem dJ8_equals_27 : decode cJ8_equals 27 = .ok (.iconst 0, 1) := dk_3 (dk_at dksJ8_equals_1 5 rfl rfl)
theorem dJ8_equals_28 : decode cJ8_equals 28 = .ok (.ireturn, 1) := dk_172 (dk_at dksJ8_equals_1 6 rfl rfl)
abbrev cJ8_intValue : ByteArray := prog_29_method_27_code
def yJ8_intValue : MethodName := ⟨RJ8, "intValue", "()I"⟩
theorem dJ8_intValue_0 : decode cJ8_intValue 0 = .ok (.aload_n 0, 1) := by decide +kernel
theorem dJ8_intValue_1 : decode cJ8_intValue 1 = .ok (.getfield 205, 3) := by decide +kernel
theorem dJ8_intValue_4 : decode cJ8_intValue 4 = .ok (.ireturn, 1) := by decide +kernel
abbrev cJ8_highestOneBit : ByteArray := prog_29_method_45_code
def yJ8_highestOneBit : MethodName := ⟨RJ8, "highestOneBit", "(I)I"⟩
def dkwJ8_highestOneBit_0 : List UInt8 := [26, 18, 127, 26, 184, 0, 51, 124, 126, 172]
abbrev dktJ8_highestOneBit_0 : List UInt8 := dkwJ8_highestOneBit_0 ++ []
theorem dksJ8_highestOneBit_0 : cJ8_highestOneBit.data.toList.drop 0 = dktJ8_highestOneBit_0 := by decide +kernel
theorem dJ8_highestOneBit_0 : decode cJ8_highestOneBit 0 = .ok (.iload_n 0, 1) := dk_26 (dk_at dksJ8_highestOneBit_0 0 rfl rfl)
theorem dJ8_highestOneBit_1 : decode cJ8_highestOneBit 1 = .ok (.ldc 127, 2) := dk_18 127 (dk_at dksJ8_highestOneBit_0 1 rfl rfl)
theorem dJ8_highestOneBit_3 : decode cJ8_highestOneBit 3 = .ok (.iload_n 0, 1) := dk_26 (dk_at dksJ8_highestOneBit_0 3 rfl rfl)
theorem dJ8_highestOneBit_4 : decode cJ8_highestOneBit 4 = .ok (.invokestatic 51, 3) := dk_184 0 51 (dk_at dksJ8_highestOneBit_0 4 rfl rfl)
theorem dJ8_highestOneBit_7 : decode cJ8_highestOneBit 7 = .ok (.iushr, 1) := dk_124 (dk_at dksJ8_highestOneBit_0 7 rfl rfl)
theorem dJ8_highestOneBit_8 : decode cJ8_highestOneBit 8 = .ok (.iand, 1) := dk_126 (dk_at dksJ8_highestOneBit_0 8 rfl rfl)
theorem dJ8_highestOneBit_9 : decode cJ8_highestOneBit 9 = .ok (.ireturn, 1) := dk_172 (dk_at dksJ8_highestOneBit_0 9 rfl rfl)
abbrev cJ8_numberOfLeadingZeros : ByteArray := prog_29_method_47_code
def yJ8_numberOfLeadingZeros : MethodName := ⟨RJ8, "numberOfLeadingZeros", "(I)I"⟩
def dkwJ8_numberOfLeadingZeros_3 : List UInt8 := [5, 124, 59, 27, 26, 4, 124, 100, 172]
abbrev dktJ8_numberOfLeadingZeros_3 : List UInt8 := dkwJ8_numberOfLeadingZeros_3 ++ []
def dkwJ8_numberOfLeadingZeros_2 : List UInt8 := [124, 59, 26, 16, 16, 161, 0, 10, 132, 1, 252, 26, 7, 124, 59, 26, 7, 161, 0, 10, 132, 1, 254, 26]
abbrev dktJ8_numberOfLeadingZeros_2 : List UInt8 := dkwJ8_numberOfLeadingZeros_2 ++ dktJ8_numberOfLeadingZeros_3
def dkwJ8_numberOfLeadingZeros_1 : List UInt8 := [161, 0, 11, 132, 1, 240, 26, 16, 16, 124, 59, 26, 17, 1, 0, 161, 0, 11, 132, 1, 248, 26, 16, 8]
abbrev dktJ8_numberOfLeadingZeros_1 : List UInt8 := dkwJ8_numberOfLeadingZeros_1 ++ dktJ8_numberOfLeadingZeros_2
def dkwJ8_numberOfLeadingZeros_0 : List UInt8 := [26, 157, 0, 14, 26, 154, 0, 8, 16, 32, 167, 0, 4, 3, 172, 16, 31, 60, 26, 19, 1, 8]
abbrev dktJ8_numberOfLeadingZeros_0 : List UInt8 := dkwJ8_numberOfLeadingZeros_0 ++ dktJ8_numberOfLeadingZeros_1
theorem dksJ8_numberOfLeadingZeros_0 : cJ8_numberOfLeadingZeros.data.toList.drop 0 = dktJ8_numberOfLeadingZeros_0 := by decide +kernel
theorem dksJ8_numberOfLeadingZeros_1 : cJ8_numberOfLeadingZeros.data.toList.drop 22 = dktJ8_numberOfLeadingZeros_1 := dk_seg dksJ8_numberOfLeadingZeros_0 22 rfl rfl
theorem dksJ8_numberOfLeadingZeros_2 : cJ8_numberOfLeadingZeros.data.toList.drop 46 = dktJ8_numberOfLeadingZeros_2 := dk_seg dksJ8_numberOfLeadingZeros_1 24 rfl rfl
theorem dksJ8_numberOfLeadingZeros_3 : cJ8_numberOfLeadingZeros.data.toList.drop 70 = dktJ8_numberOfLeadingZeros_3 := dk_seg dksJ8_numberOfLeadingZeros_2 24 rfl rfl
theorem dJ8_numberOfLeadingZeros_0 : decode cJ8_numberOfLeadingZeros 0 = .ok (.iload_n 0, 1) := dk_26 (dk_at dksJ8_numberOfLeadingZeros_0 0 rfl rfl)
theorem dJ8_numberOfLeadingZeros_1 : decode cJ8_numberOfLeadingZeros 1 = .ok (.ifCond .gt 14, 3) := dk_157 0 14 (dk_at dksJ8_numberOfLeadingZeros_0 1 rfl rfl)
theorem dJ8_numberOfLeadingZeros_4 : decode cJ8_numberOfLeadingZeros 4 = .ok (.iload_n 0, 1) := dk_26 (dk_at dksJ8_numberOfLeadingZeros_0 4 rfl rfl)
theorem dJ8_numberOfLeadingZeros_5 : decode cJ8_numberOfLeadingZeros 5 = .ok (.ifCond .ne 8, 3) := dk_154 0 8 (dk_at dksJ8_numberOfLeadingZeros_0 5 rfl rfl)
theorem dJ8_numberOfLeadingZeros_8 : decode cJ8_numberOfLeadingZeros 8 = .ok (.bipush 32, 2) := dk_16 32 (dk_at dksJ8_numberOfLeadingZeros_0 8 rfl rfl)
theorem dJ8_numberOfLeadingZeros_10 : decode cJ8_numberOfLeadingZeros 10 = .ok (.goto 4, 3) := dk_167 0 4 (dk_at dksJ8_numberOfLeadingZeros_0 10 rfl rfl)
theorem dJ8_numberOfLeadingZeros_13 : decode cJ8_numberOfLeadingZeros 13 = .ok (.iconst 0, 1) := dk_3 (dk_at dksJ8_numberOfLeadingZeros_0 13 rfl rfl)
theorem dJ8_numberOfLeadingZeros_14 : decode cJ8_numberOfLeadingZeros 14 = .ok (.ireturn, 1) := dk_172 (dk_at dksJ8_numberOfLeadingZeros_0 14 rfl rfl)
theorem dJ8_numberOfLeadingZeros_15 : decode cJ8_numberOfLeadingZeros 15 = .ok (.bipush 31, 2) := dk_16 31 (dk_at dksJ8_numberOfLeadingZeros_0 15 rfl rfl)
theorem dJ8_numberOfLeadingZeros_17 : decode cJ8_numberOfLeadingZeros 17 = .ok (.istore_n 1, 1) := dk_60 (dk_at dksJ8_numberOfLeadingZeros_0 17 rfl rfl)
theorem dJ8_numberOfLeadingZeros_18 : decode cJ8_numberOfLeadingZeros 18 = .ok (.iload_n 0, 1) := dk_26 (dk_at dksJ8_numberOfLeadingZeros_0 18 rfl rfl)
theorem dJ8_numberOfLeadingZeros_19 : decode cJ8_numberOfLeadingZeros 19 = .ok (.ldc_w 264, 3) := dk_19 1 8 (dk_at dksJ8_numberOfLeadingZeros_0 19 rfl rfl)
theorem dJ8_numberOfLeadingZeros_22 : decode cJ8_numberOfLeadingZeros 22 = .ok (.if_icmp .lt 11, 3) := dk_161 0 11 (dk_at dksJ8_numberOfLeadingZeros_1 0 rfl rfl)
theorem dJ8_numberOfLeadingZeros_25 : decode cJ8_numberOfLeadingZeros 25 = .ok (.iinc 1 (-16), 3) := dk_132 1 240 (dk_at dksJ8_numberOfLeadingZeros_1 3 rfl rfl)
theorem dJ8_numberOfLeadingZeros_28 : decode cJ8_numberOfLeadingZeros 28 = .ok (.iload_n 0, 1) := dk_26 (dk_at dksJ8_numberOfLeadingZeros_1 6 rfl rfl)
theorem dJ8_numberOfLeadingZeros_29 : decode cJ8_numberOfLeadingZeros 29 = .ok (.bipush 16, 2) := dk_16 16 (dk_at dksJ8_numberOfLeadingZeros_1 7 rfl rfl)
theorem dJ8_numberOfLeadingZeros_31 : decode cJ8_numberOfLeadingZeros 31 = .ok (.iushr, 1) := dk_124 (dk_at dksJ8_numberOfLeadingZeros_1 9 rfl rfl)
theorem dJ8_numberOfLeadingZeros_32 : decode cJ8_numberOfLeadingZeros 32 = .ok (.istore_n 0, 1) := dk_59 (dk_at dksJ8_numberOfLeadingZeros_1 10 rfl rfl)
theorem dJ8_numberOfLeadingZeros_33 : decode cJ8_numberOfLeadingZeros 33 = .ok (.iload_n 0, 1) := dk_26 (dk_at dksJ8_numberOfLeadingZeros_1 11 rfl rfl)
theorem dJ8_numberOfLeadingZeros_34 : decode cJ8_numberOfLeadingZeros 34 = .ok (.sipush 256, 3) := dk_17 1 0 (dk_at dksJ8_numberOfLeadingZeros_1 12 rfl rfl)
theorem dJ8_numberOfLeadingZeros_37 : decode cJ8_numberOfLeadingZeros 37 = .ok (.if_icmp .lt 11, 3) := dk_161 0 11 (dk_at dksJ8_numberOfLeadingZeros_1 15 rfl rfl)
theorem dJ8_numberOfLeadingZeros_40 : decode cJ8_numberOfLeadingZeros 40 = .ok (.iinc 1 (-8), 3) := dk_132 1 248 (dk_at dksJ8_numberOfLeadingZeros_1 18 rfl rfl)
theorem dJ8_numberOfLeadingZeros_43 : decode cJ8_numberOfLeadingZeros 43 = .ok (.iload_n 0, 1) := dk_26 (dk_at dksJ8_numberOfLeadingZeros_1 21 rfl rfl)
theorem dJ8_numberOfLeadingZeros_44 : decode cJ8_numberOfLeadingZeros 44 = .ok (.bipush 8, 2) := dk_16 8 (dk_at dksJ8_numberOfLeadingZeros_1 22 rfl rfl)
theorem dJ8_numberOfLeadingZeros_46 : decode cJ8_numberOfLeadingZeros 46 = .ok (.iushr, 1) := dk_124 (dk_at dksJ8_numberOfLeadingZeros_2 0 rfl rfl)
theorem dJ8_numberOfLeadingZeros_47 : decode cJ8_numberOfLeadingZeros 47 = .ok (.istore_n 0, 1) := dk_59 (dk_at dksJ8_numberOfLeadingZeros_2 1 rfl rfl)
theorem dJ8_numberOfLeadingZeros_48 : decode cJ8_numberOfLeadingZeros 48 = .ok (.iload_n 0, 1) := dk_26 (dk_at dksJ8_numberOfLeadingZeros_2 2 rfl rfl)
theorem dJ8_numberOfLeadingZeros_49 : decode cJ8_numberOfLeadingZeros 49 = .ok (.bipush 16, 2) := dk_16 16 (dk_at dksJ8_numberOfLeadingZeros_2 3 rfl rfl)
theorem dJ8_numberOfLeadingZeros_51 : decode cJ8_numberOfLeadingZeros 51 = .ok (.if_icmp .lt 10, 3) := dk_161 0 10 (dk_at dksJ8_numberOfLeadingZeros_2 5 rfl rfl)
theorem dJ8_numberOfLeadingZeros_54 : decode cJ8_numberOfLeadingZeros 54 = .ok (.iinc 1 (-4), 3) := dk_132 1 252 (dk_at dksJ8_numberOfLeadingZeros_2 8 rfl rfl)
theorem dJ8_numberOfLeadingZeros_57 : decode cJ8_numberOfLeadingZeros 57 = .ok (.iload_n 0, 1) := dk_26 (dk_at dksJ8_numberOfLeadingZeros_2 11 rfl rfl)
theorem dJ8_numberOfLeadingZeros_58 : decode cJ8_numberOfLeadingZeros 58 = .ok (.iconst 4, 1) := dk_7 (dk_at dksJ8_numberOfLeadingZeros_2 12 rfl rfl)
theorem dJ8_numberOfLeadingZeros_59 : decode cJ8_numberOfLeadingZeros 59 = .ok (.iushr, 1) := dk_124 (dk_at dksJ8_numberOfLeadingZeros_2 13 rfl rfl)
theorem dJ8_numberOfLeadingZeros_60 : decode cJ8_numberOfLeadingZeros 60 = .ok (.istore_n 0, 1) := dk_59 (dk_at dksJ8_numberOfLeadingZeros_2 14 rfl rfl)
theorem dJ8_numberOfLeadingZeros_61 : decode cJ8_numberOfLeadingZeros 61 = .ok (.iload_n 0, 1) := dk_26 (dk_at dksJ8_numberOfLeadingZeros_2 15 rfl rfl)
theorem dJ8_numberOfLeadingZeros_62 : decode cJ8_numberOfLeadingZeros 62 = .ok (.iconst 4, 1) := dk_7 (dk_at dksJ8_numberOfLeadingZeros_2 16 rfl rfl)
theorem dJ8_numberOfLeadingZeros_63 : decode cJ8_numberOfLeadingZeros 63 = .ok (.if_icmp .lt 10, 3) := dk_161 0 10 (dk_at dksJ8_numberOfLeadingZeros_2 17 rfl rfl)
theorem dJ8_numberOfLeadingZeros_66 : decode cJ8_numberOfLeadingZeros 66 = .ok (.iinc 1 (-2), 3) := dk_132 1 254 (dk_at dksJ8_numberOfLeadingZeros_2 20 rfl rfl)
theorem dJ8_numberOfLeadingZeros_69 : decode cJ8_numberOfLeadingZeros 69 = .ok (.iload_n 0, 1) := dk_26 (dk_at dksJ8_numberOfLeadingZeros_2 23 rfl rfl)
theorem dJ8_numberOfLeadingZeros_70 : decode cJ8_numberOfLeadingZeros 70 = .ok (.iconst 2, 1) := dk_5 (dk_at dksJ8_numberOfLeadingZeros_3 0 rfl rfl)
theorem dJ8_numberOfLeadingZeros_71 : decode cJ8_numberOfLeadingZeros 71 = .ok (.iushr, 1) := dk_124 (dk_at dksJ8_numberOfLeadingZeros_3 1 rfl rfl)
theorem dJ8_numberOfLeadingZeros_72 : decode cJ8_numberOfLeadingZeros 72 = .ok (.istore_n 0, 1) := dk_59 (dk_at dksJ8_numberOfLeadingZeros_3 2 rfl rfl)
theorem dJ8_numberOfLeadingZeros_73 : decode cJ8_numberOfLeadingZeros 73 = .ok (.iload_n 1, 1) := dk_27 (dk_at dksJ8_numberOfLeadingZeros_3 3 rfl rfl)
theorem dJ8_numberOfLeadingZeros_74 : decode cJ8_numberOfLeadingZeros 74 = .ok (.iload_n 0, 1) := dk_26 (dk_at dksJ8_numberOfLeadingZeros_3 4 rfl rfl)
theorem dJ8_numberOfLeadingZeros_75 : decode cJ8_numberOfLeadingZeros 75 = .ok (.iconst 1, 1) := dk_4 (dk_at dksJ8_numberOfLeadingZeros_3 5 rfl rfl)
theorem dJ8_numberOfLeadingZeros_76 : decode cJ8_numberOfLeadingZeros 76 = .ok (.iushr, 1) := dk_124 (dk_at dksJ8_numberOfLeadingZeros_3 6 rfl rfl)
theorem dJ8_numberOfLeadingZeros_77 : decode cJ8_numberOfLeadingZeros 77 = .ok (.isub, 1) := dk_100 (dk_at dksJ8_numberOfLeadingZeros_3 7 rfl rfl)
theorem dJ8_numberOfLeadingZeros_78 : decode cJ8_numberOfLeadingZeros 78 = .ok (.ireturn, 1) := dk_172 (dk_at dksJ8_numberOfLeadingZeros_3 8 rfl rfl)
abbrev cJ8_numberOfTrailingZeros : ByteArray := prog_29_method_48_code
def yJ8_numberOfTrailingZeros : MethodName := ⟨RJ8, "numberOfTrailingZeros", "(I)I"⟩
def dkwJ8_numberOfTrailingZeros_3 : List UInt8 := [5, 124, 59, 27, 26, 4, 124, 96, 172]
abbrev dktJ8_numberOfTrailingZeros_3 : List UInt8 := dkwJ8_numberOfTrailingZeros_3 ++ []
def dkwJ8_numberOfTrailingZeros_2 : List UInt8 := [124, 59, 26, 16, 16, 164, 0, 10, 132, 1, 4, 26, 7, 124, 59, 26, 7, 164, 0, 10, 132, 1, 2, 26]
abbrev dktJ8_numberOfTrailingZeros_2 : List UInt8 := dkwJ8_numberOfTrailingZeros_2 ++ dktJ8_numberOfTrailingZeros_3
def dkwJ8_numberOfTrailingZeros_1 : List UInt8 := [164, 0, 11, 132, 1, 16, 26, 16, 16, 124, 59, 26, 17, 1, 0, 164, 0, 11, 132, 1, 8, 26, 16, 8]
abbrev dktJ8_numberOfTrailingZeros_1 : List UInt8 := dkwJ8_numberOfTrailingZeros_1 ++ dktJ8_numberOfTrailingZeros_2
def dkwJ8_numberOfTrailingZeros_0 : List UInt8 := [26, 2, 130, 26, 4, 100, 126, 59, 26, 157, 0, 8, 26, 16, 32, 126, 172, 4, 60, 26, 19, 1, 8]
abbrev dktJ8_numberOfTrailingZeros_0 : List UInt8 := dkwJ8_numberOfTrailingZeros_0 ++ dktJ8_numberOfTrailingZeros_1
theorem dksJ8_numberOfTrailingZeros_0 : cJ8_numberOfTrailingZeros.data.toList.drop 0 = dktJ8_numberOfTrailingZeros_0 := by decide +kernel
theorem dksJ8_numberOfTrailingZeros_1 : cJ8_numberOfTrailingZeros.data.toList.drop 23 = dktJ8_numberOfTrailingZeros_1 := dk_seg dksJ8_numberOfTrailingZeros_0 23 rfl rfl
theorem dksJ8_numberOfTrailingZeros_2 : cJ8_numberOfTrailingZeros.data.toList.drop 47 = dktJ8_numberOfTrailingZeros_2 := dk_seg dksJ8_numberOfTrailingZeros_1 24 rfl rfl
theorem dksJ8_numberOfTrailingZeros_3 : cJ8_numberOfTrailingZeros.data.toList.drop 71 = dktJ8_numberOfTrailingZeros_3 := dk_seg dksJ8_numberOfTrailingZeros_2 24 rfl rfl
theorem dJ8_numberOfTrailingZeros_0 : decode cJ8_numberOfTrailingZeros 0 = .ok (.iload_n 0, 1) := dk_26 (dk_at dksJ8_numberOfTrailingZeros_0 0 rfl rfl)
theorem dJ8_numberOfTrailingZeros_1 : decode cJ8_numberOfTrailingZeros 1 = .ok (.iconst (-1), 1) := dk_2 (dk_at dksJ8_numberOfTrailingZeros_0 1 rfl rfl)
theorem dJ8_numberOfTrailingZeros_2 : decode cJ8_numberOfTrailingZeros 2 = .ok (.ixor, 1) := dk_130 (dk_at dksJ8_numberOfTrailingZeros_0 2 rfl rfl)
theorem dJ8_numberOfTrailingZeros_3 : decode cJ8_numberOfTrailingZeros 3 = .ok (.iload_n 0, 1) := dk_26 (dk_at dksJ8_numberOfTrailingZeros_0 3 rfl rfl)
theorem dJ8_numberOfTrailingZeros_4 : decode cJ8_numberOfTrailingZeros 4 = .ok (.iconst 1, 1) := dk_4 (dk_at dksJ8_numberOfTrailingZeros_0 4 rfl rfl)
theorem dJ8_numberOfTrailingZeros_5 : decode cJ8_numberOfTrailingZeros 5 = .ok (.isub, 1) := dk_100 (dk_at dksJ8_numberOfTrailingZeros_0 5 rfl rfl)
theorem dJ8_numberOfTrailingZeros_6 : decode cJ8_numberOfTrailingZeros 6 = .ok (.iand, 1) := dk_126 (dk_at dksJ8_numberOfTrailingZeros_0 6 rfl rfl)
theorem dJ8_numberOfTrailingZeros_7 : decode cJ8_numberOfTrailingZeros 7 = .ok (.istore_n 0, 1) := dk_59 (dk_at dksJ8_numberOfTrailingZeros_0 7 rfl rfl)
theorem dJ8_numberOfTrailingZeros_8 : decode cJ8_numberOfTrailingZeros 8 = .ok (.iload_n 0, 1) := dk_26 (dk_at dksJ8_numberOfTrailingZeros_0 8 rfl rfl)
theorem dJ8_numberOfTrailingZeros_9 : decode cJ8_numberOfTrailingZeros 9 = .ok (.ifCond .gt 8, 3) := dk_157 0 8 (dk_at dksJ8_numberOfTrailingZeros_0 9 rfl rfl)
theorem dJ8_numberOfTrailingZeros_12 : decode cJ8_numberOfTrailingZeros 12 = .ok (.iload_n 0, 1) := dk_26 (dk_at dksJ8_numberOfTrailingZeros_0 12 rfl rfl)
theorem dJ8_numberOfTrailingZeros_13 : decode cJ8_numberOfTrailingZeros 13 = .ok (.bipush 32, 2) := dk_16 32 (dk_at dksJ8_numberOfTrailingZeros_0 13 rfl rfl)
theorem dJ8_numberOfTrailingZeros_15 : decode cJ8_numberOfTrailingZeros 15 = .ok (.iand, 1) := dk_126 (dk_at dksJ8_numberOfTrailingZeros_0 15 rfl rfl)
theorem dJ8_numberOfTrailingZeros_16 : decode cJ8_numberOfTrailingZeros 16 = .ok (.ireturn, 1) := dk_172 (dk_at dksJ8_numberOfTrailingZeros_0 16 rfl rfl)
theorem dJ8_numberOfTrailingZeros_17 : decode cJ8_numberOfTrailingZeros 17 = .ok (.iconst 1, 1) := dk_4 (dk_at dksJ8_numberOfTrailingZeros_0 17 rfl rfl)
theorem dJ8_numberOfTrailingZeros_18 : decode cJ8_numberOfTrailingZeros 18 = .ok (.istore_n 1, 1) := dk_60 (dk_at dksJ8_numberOfTrailingZeros_0 18 rfl rfl)
theorem dJ8_numberOfTrailingZeros_19 : decode cJ8_numberOfTrailingZeros 19 = .ok (.iload_n 0, 1) := dk_26 (dk_at dksJ8_numberOfTrailingZeros_0 19 rfl rfl)
theorem dJ8_numberOfTrailingZeros_20 : decode cJ8_numberOfTrailingZeros 20 = .ok (.ldc_w 264, 3) := dk_19 1 8 (dk_at dksJ8_numberOfTrailingZeros_0 20 rfl rfl)
theorem dJ8_numberOfTrailingZeros_23 : decode cJ8_numberOfTrailingZeros 23 = .ok (.if_icmp .le 11, 3) := dk_164 0 11 (dk_at dksJ8_numberOfTrailingZeros_1 0 rfl rfl)
theorem dJ8_numberOfTrailingZeros_26 : decode cJ8_numberOfTrailingZeros 26 = .ok (.iinc 1 16, 3) := dk_132 1 16 (dk_at dksJ8_numberOfTrailingZeros_1 3 rfl rfl)
theorem dJ8_numberOfTrailingZeros_29 : decode cJ8_numberOfTrailingZeros 29 = .ok (.iload_n 0, 1) := dk_26 (dk_at dksJ8_numberOfTrailingZeros_1 6 rfl rfl)
theorem dJ8_numberOfTrailingZeros_30 : decode cJ8_numberOfTrailingZeros 30 = .ok (.bipush 16, 2) := dk_16 16 (dk_at dksJ8_numberOfTrailingZeros_1 7 rfl rfl)
theorem dJ8_numberOfTrailingZeros_32 : decode cJ8_numberOfTrailingZeros 32 = .ok (.iushr, 1) := dk_124 (dk_at dksJ8_numberOfTrailingZeros_1 9 rfl rfl)
theorem dJ8_numberOfTrailingZeros_33 : decode cJ8_numberOfTrailingZeros 33 = .ok (.istore_n 0, 1) := dk_59 (dk_at dksJ8_numberOfTrailingZeros_1 10 rfl rfl)
theorem dJ8_numberOfTrailingZeros_34 : decode cJ8_numberOfTrailingZeros 34 = .ok (.iload_n 0, 1) := dk_26 (dk_at dksJ8_numberOfTrailingZeros_1 11 rfl rfl)
theorem dJ8_numberOfTrailingZeros_35 : decode cJ8_numberOfTrailingZeros 35 = .ok (.sipush 256, 3) := dk_17 1 0 (dk_at dksJ8_numberOfTrailingZeros_1 12 rfl rfl)
theorem dJ8_numberOfTrailingZeros_38 : decode cJ8_numberOfTrailingZeros 38 = .ok (.if_icmp .le 11, 3) := dk_164 0 11 (dk_at dksJ8_numberOfTrailingZeros_1 15 rfl rfl)
theorem dJ8_numberOfTrailingZeros_41 : decode cJ8_numberOfTrailingZeros 41 = .ok (.iinc 1 8, 3) := dk_132 1 8 (dk_at dksJ8_numberOfTrailingZeros_1 18 rfl rfl)
theorem dJ8_numberOfTrailingZeros_44 : decode cJ8_numberOfTrailingZeros 44 = .ok (.iload_n 0, 1) := dk_26 (dk_at dksJ8_numberOfTrailingZeros_1 21 rfl rfl)
theorem dJ8_numberOfTrailingZeros_45 : decode cJ8_numberOfTrailingZeros 45 = .ok (.bipush 8, 2) := dk_16 8 (dk_at dksJ8_numberOfTrailingZeros_1 22 rfl rfl)
theorem dJ8_numberOfTrailingZeros_47 : decode cJ8_numberOfTrailingZeros 47 = .ok (.iushr, 1) := dk_124 (dk_at dksJ8_numberOfTrailingZeros_2 0 rfl rfl)
theorem dJ8_numberOfTrailingZeros_48 : decode cJ8_numberOfTrailingZeros 48 = .ok (.istore_n 0, 1) := dk_59 (dk_at dksJ8_numberOfTrailingZeros_2 1 rfl rfl)
theorem dJ8_numberOfTrailingZeros_49 : decode cJ8_numberOfTrailingZeros 49 = .ok (.iload_n 0, 1) := dk_26 (dk_at dksJ8_numberOfTrailingZeros_2 2 rfl rfl)
theorem dJ8_numberOfTrailingZeros_50 : decode cJ8_numberOfTrailingZeros 50 = .ok (.bipush 16, 2) := dk_16 16 (dk_at dksJ8_numberOfTrailingZeros_2 3 rfl rfl)
theorem dJ8_numberOfTrailingZeros_52 : decode cJ8_numberOfTrailingZeros 52 = .ok (.if_icmp .le 10, 3) := dk_164 0 10 (dk_at dksJ8_numberOfTrailingZeros_2 5 rfl rfl)
theorem dJ8_numberOfTrailingZeros_55 : decode cJ8_numberOfTrailingZeros 55 = .ok (.iinc 1 4, 3) := dk_132 1 4 (dk_at dksJ8_numberOfTrailingZeros_2 8 rfl rfl)
theorem dJ8_numberOfTrailingZeros_58 : decode cJ8_numberOfTrailingZeros 58 = .ok (.iload_n 0, 1) := dk_26 (dk_at dksJ8_numberOfTrailingZeros_2 11 rfl rfl)
theorem dJ8_numberOfTrailingZeros_59 : decode cJ8_numberOfTrailingZeros 59 = .ok (.iconst 4, 1) := dk_7 (dk_at dksJ8_numberOfTrailingZeros_2 12 rfl rfl)
theorem dJ8_numberOfTrailingZeros_60 : decode cJ8_numberOfTrailingZeros 60 = .ok (.iushr, 1) := dk_124 (dk_at dksJ8_numberOfTrailingZeros_2 13 rfl rfl)
theorem dJ8_numberOfTrailingZeros_61 : decode cJ8_numberOfTrailingZeros 61 = .ok (.istore_n 0, 1) := dk_59 (dk_at dksJ8_numberOfTrailingZeros_2 14 rfl rfl)
theorem dJ8_numberOfTrailingZeros_62 : decode cJ8_numberOfTrailingZeros 62 = .ok (.iload_n 0, 1) := dk_26 (dk_at dksJ8_numberOfTrailingZeros_2 15 rfl rfl)
theorem dJ8_numberOfTrailingZeros_63 : decode cJ8_numberOfTrailingZeros 63 = .ok (.iconst 4, 1) := dk_7 (dk_at dksJ8_numberOfTrailingZeros_2 16 rfl rfl)
theorem dJ8_numberOfTrailingZeros_64 : decode cJ8_numberOfTrailingZeros 64 = .ok (.if_icmp .le 10, 3) := dk_164 0 10 (dk_at dksJ8_numberOfTrailingZeros_2 17 rfl rfl)
theorem dJ8_numberOfTrailingZeros_67 : decode cJ8_numberOfTrailingZeros 67 = .ok (.iinc 1 2, 3) := dk_132 1 2 (dk_at dksJ8_numberOfTrailingZeros_2 20 rfl rfl)
theorem dJ8_numberOfTrailingZeros_70 : decode cJ8_numberOfTrailingZeros 70 = .ok (.iload_n 0, 1) := dk_26 (dk_at dksJ8_numberOfTrailingZeros_2 23 rfl rfl)
theorem dJ8_numberOfTrailingZeros_71 : decode cJ8_numberOfTrailingZeros 71 = .ok (.iconst 2, 1) := dk_5 (dk_at dksJ8_numberOfTrailingZeros_3 0 rfl rfl)
theorem dJ8_numberOfTrailingZeros_72 : decode cJ8_numberOfTrailingZeros 72 = .ok (.iushr, 1) := dk_124 (dk_at dksJ8_numberOfTrailingZeros_3 1 rfl rfl)
theorem dJ8_numberOfTrailingZeros_73 : decode cJ8_numberOfTrailingZeros 73 = .ok (.istore_n 0, 1) := dk_59 (dk_at dksJ8_numberOfTrailingZeros_3 2 rfl rfl)
theorem dJ8_numberOfTrailingZeros_74 : decode cJ8_numberOfTrailingZeros 74 = .ok (.iload_n 1, 1) := dk_27 (dk_at dksJ8_numberOfTrailingZeros_3 3 rfl rfl)
theorem dJ8_numberOfTrailingZeros_75 : decode cJ8_numberOfTrailingZeros 75 = .ok (.iload_n 0, 1) := dk_26 (dk_at dksJ8_numberOfTrailingZeros_3 4 rfl rfl)
theorem dJ8_numberOfTrailingZeros_76 : decode cJ8_numberOfTrailingZeros 76 = .ok (.iconst 1, 1) := dk_4 (dk_at dksJ8_numberOfTrailingZeros_3 5 rfl rfl)
theorem dJ8_numberOfTrailingZeros_77 : decode cJ8_numberOfTrailingZeros 77 = .ok (.iushr, 1) := dk_124 (dk_at dksJ8_numberOfTrailingZeros_3 6 rfl rfl)
theorem dJ8_numberOfTrailingZeros_78 : decode cJ8_numberOfTrailingZeros 78 = .ok (.iadd, 1) := dk_96 (dk_at dksJ8_numberOfTrailingZeros_3 7 rfl rfl)
theorem dJ8_numberOfTrailingZeros_79 : decode cJ8_numberOfTrailingZeros 79 = .ok (.ireturn, 1) := dk_172 (dk_at dksJ8_numberOfTrailingZeros_3 8 rfl rfl)
theorem q82 : (Jvm.Cond.initialized "java/lang/Integer") ∈ lw_all := lw_g (lw_at lw_m1 19 rfl) rfl
theorem q269 : (Jvm.Cond.selects "java/lang/Integer" ({ cls := "java/lang/Object", name := "getClass", desc := "()Ljava/lang/Class;" } : Jvm.MethodName) ({ cls := "java/lang/Object", name := "getClass", desc := "()Ljava/lang/Class;" } : Jvm.MethodName)) ∈ lw_all := lw_g (lw_at lw_m1 206 rfl) rfl
theorem q858 : (Jvm.Cond.static ({ cls := "java/lang/Integer", name := "stringSize", desc := "(I)I" } : Jvm.MethodName)) ∈ lw_all := lw_g (lw_at lw_m4 75 rfl) rfl
theorem q859 : (Jvm.Cond.code ({ cls := "java/lang/Integer", name := "stringSize", desc := "(I)I" } : Jvm.MethodName) prog_29_method_13_code (4 : Nat) (Option.some Jvm.ClassFile.FieldType.int)) ∈ lw_all := lw_g (lw_at lw_m4 76 rfl) rfl
theorem q861 : (Jvm.Cond.static ({ cls := "java/lang/Integer", name := "getChars", desc := "(II[B)I" } : Jvm.MethodName)) ∈ lw_all := lw_g (lw_at lw_m4 78 rfl) rfl
theorem q862 : (Jvm.Cond.code ({ cls := "java/lang/Integer", name := "getChars", desc := "(II[B)I" } : Jvm.MethodName) prog_29_method_12_code (7 : Nat) (Option.some Jvm.ClassFile.FieldType.int)) ∈ lw_all := lw_g (lw_at lw_m4 79 rfl) rfl
theorem q863 : (Jvm.Cond.fieldLink "java/lang/Integer" (83 : Nat) "java/lang/Integer" "DigitOnes" "[B") ∈ lw_all := lw_g (lw_at lw_m4 80 rfl) rfl
theorem q864 : (Jvm.Cond.laysStatic "java/lang/Integer" "DigitOnes" "[B") ∈ lw_tbl := lw_at lw_m4 81 rfl
theorem q865 : (Jvm.Cond.fieldLink "java/lang/Integer" (87 : Nat) "java/lang/Integer" "DigitTens" "[B") ∈ lw_all := lw_g (lw_at lw_m4 82 rfl) rfl
theorem q866 : (Jvm.Cond.laysStatic "java/lang/Integer" "DigitTens" "[B") ∈ lw_tbl := lw_at lw_m4 83 rfl
theorem q1491 : (Jvm.Cond.static ({ cls := "java/lang/Integer", name := "valueOf", desc := "(I)Ljava/lang/Integer;" } : Jvm.MethodName)) ∈ lw_all := lw_g (lw_at lw_m6 228 rfl) rfl
theorem q1492 : (Jvm.Cond.code ({ cls := "java/lang/Integer", name := "valueOf", desc := "(I)Ljava/lang/Integer;" } : Jvm.MethodName) prog_29_method_22_code (1 : Nat) (Option.some (Jvm.ClassFile.FieldType.object "java/lang/Integer"))) ∈ lw_all := lw_g (lw_at lw_m6 229 rfl) rfl
theorem q1493 : (Jvm.Cond.fieldLink "java/lang/Integer" (191 : Nat) "java/lang/Integer$IntegerCache" "high" "I") ∈ lw_all := lw_g (lw_at lw_m6 230 rfl) rfl
theorem q1495 : (Jvm.Cond.fieldLink "java/lang/Integer" (195 : Nat) "java/lang/Integer$IntegerCache" "cache" "[Ljava/lang/Integer;") ∈ lw_all := lw_g (lw_at lw_m6 232 rfl) rfl
theorem q1497 : (Jvm.Cond.classLink "java/lang/Integer" (1 : Nat) "java/lang/Integer") ∈ lw_all := lw_g (lw_at lw_m6 234 rfl) rfl
theorem q1498 : (Jvm.Cond.instantiable "java/lang/Integer" (1 : Nat)) ∈ lw_all := lw_g (lw_at lw_m6 235 rfl) rfl
theorem q1499 : (Jvm.Cond.methodLink "java/lang/Integer" (199 : Nat) ({ cls := "java/lang/Integer", name := "<init>", desc := "(I)V" } : Jvm.MethodName)) ∈ lw_all := lw_g (lw_at lw_m6 236 rfl) rfl
theorem q1500 : (Jvm.Cond.instanceMethod ({ cls := "java/lang/Integer", name := "<init>", desc := "(I)V" } : Jvm.MethodName)) ∈ lw_all := lw_g (lw_at lw_m6 237 rfl) rfl
theorem q1501 : (Jvm.Cond.code ({ cls := "java/lang/Integer", name := "<init>", desc := "(I)V" } : Jvm.MethodName) prog_29_method_23_code (2 : Nat) (Option.none : Option Jvm.ClassFile.FieldType)) ∈ lw_all := lw_g (lw_at lw_m6 238 rfl) rfl
theorem q1502 : (Jvm.Cond.methodLink "java/lang/Integer" (202 : Nat) ({ cls := "java/lang/Number", name := "<init>", desc := "()V" } : Jvm.MethodName)) ∈ lw_all := lw_g (lw_at lw_m6 239 rfl) rfl
theorem q1506 : (Jvm.Cond.fieldLink "java/lang/Integer" (205 : Nat) "java/lang/Integer" "value" "I") ∈ lw_all := lw_g (lw_at lw_m7 3 rfl) rfl
theorem q1507 : (Jvm.Cond.laysFinal "java/lang/Integer" "java/lang/Integer" "value" "I") ∈ lw_all := lw_g (lw_at lw_m7 4 rfl) rfl
theorem q1508 : (Jvm.Cond.soleField "java/lang/Integer" "value") ∈ lw_all := lw_g (lw_at lw_m7 5 rfl) rfl
theorem q1509 : (Jvm.Cond.superclass "java/lang/Integer" "java/lang/Number") ∈ lw_all := lw_g (lw_at lw_m7 6 rfl) rfl
theorem q1545 : (Jvm.Cond.selects "java/lang/Integer" ({ cls := "java/lang/Object", name := "equals", desc := "(Ljava/lang/Object;)Z" } : Jvm.MethodName) ({ cls := "java/lang/Integer", name := "equals", desc := "(Ljava/lang/Object;)Z" } : Jvm.MethodName)) ∈ lw_all := lw_g (lw_at lw_m7 42 rfl) rfl
theorem q1546 : (Jvm.Cond.instanceMethod ({ cls := "java/lang/Integer", name := "equals", desc := "(Ljava/lang/Object;)Z" } : Jvm.MethodName)) ∈ lw_all := lw_g (lw_at lw_m7 43 rfl) rfl
theorem q1547 : (Jvm.Cond.code ({ cls := "java/lang/Integer", name := "equals", desc := "(Ljava/lang/Object;)Z" } : Jvm.MethodName) prog_29_method_34_code (2 : Nat) (Option.some Jvm.ClassFile.FieldType.boolean)) ∈ lw_all := lw_g (lw_at lw_m7 44 rfl) rfl
theorem q1548 : (Jvm.Cond.methodLink "java/lang/Integer" (211 : Nat) ({ cls := "java/lang/Integer", name := "intValue", desc := "()I" } : Jvm.MethodName)) ∈ lw_all := lw_g (lw_at lw_m7 45 rfl) rfl
theorem q1549 : (Jvm.Cond.instanceMethod ({ cls := "java/lang/Integer", name := "intValue", desc := "()I" } : Jvm.MethodName)) ∈ lw_all := lw_g (lw_at lw_m7 46 rfl) rfl
theorem q1550 : (Jvm.Cond.selects "java/lang/Integer" ({ cls := "java/lang/Integer", name := "intValue", desc := "()I" } : Jvm.MethodName) ({ cls := "java/lang/Integer", name := "intValue", desc := "()I" } : Jvm.MethodName)) ∈ lw_all := lw_g (lw_at lw_m7 47 rfl) rfl
theorem q1551 : (Jvm.Cond.code ({ cls := "java/lang/Integer", name := "intValue", desc := "()I" } : Jvm.MethodName) prog_29_method_27_code (1 : Nat) (Option.some Jvm.ClassFile.FieldType.int)) ∈ lw_all := lw_g (lw_at lw_m7 48 rfl) rfl
theorem q1731 : (Jvm.Cond.static ({ cls := "java/lang/Integer", name := "highestOneBit", desc := "(I)I" } : Jvm.MethodName)) ∈ lw_all := lw_g (lw_at lw_m7 228 rfl) rfl
theorem q1732 : (Jvm.Cond.code ({ cls := "java/lang/Integer", name := "highestOneBit", desc := "(I)I" } : Jvm.MethodName) prog_29_method_45_code (1 : Nat) (Option.some Jvm.ClassFile.FieldType.int)) ∈ lw_all := lw_g (lw_at lw_m7 229 rfl) rfl
theorem q1733 : (Jvm.Cond.constant "java/lang/Integer" (127 : Nat) (-2147483648 : Int32)) ∈ lw_all := lw_g (lw_at lw_m7 230 rfl) rfl
theorem q1734 : (Jvm.Cond.methodLink "java/lang/Integer" (51 : Nat) ({ cls := "java/lang/Integer", name := "numberOfLeadingZeros", desc := "(I)I" } : Jvm.MethodName)) ∈ lw_all := lw_g (lw_at lw_m7 231 rfl) rfl
theorem q1735 : (Jvm.Cond.static ({ cls := "java/lang/Integer", name := "numberOfLeadingZeros", desc := "(I)I" } : Jvm.MethodName)) ∈ lw_all := lw_g (lw_at lw_m7 232 rfl) rfl
theorem q1736 : (Jvm.Cond.code ({ cls := "java/lang/Integer", name := "numberOfLeadingZeros", desc := "(I)I" } : Jvm.MethodName) prog_29_method_47_code (2 : Nat) (Option.some Jvm.ClassFile.FieldType.int)) ∈ lw_all := lw_g (lw_at lw_m7 233 rfl) rfl
theorem q1737 : (Jvm.Cond.constant "java/lang/Integer" (264 : Nat) (65536 : Int32)) ∈ lw_all := lw_g (lw_at lw_m7 234 rfl) rfl
theorem q1927 : (Jvm.Cond.static ({ cls := "java/lang/Integer", name := "numberOfTrailingZeros", desc := "(I)I" } : Jvm.MethodName)) ∈ lw_all := lw_g (lw_at lw_m8 184 rfl) rfl
theorem q1928 : (Jvm.Cond.code ({ cls := "java/lang/Integer", name := "numberOfTrailingZeros", desc := "(I)I" } : Jvm.MethodName) prog_29_method_48_code (2 : Nat) (Option.some Jvm.ClassFile.FieldType.int)) ∈ lw_all := lw_g (lw_at lw_m8 185 rfl) rfl
theorem q2073 : (Jvm.Cond.castable "java/lang/Integer" "java/lang/Object") ∈ lw_tbl := lw_at lw_m9 90 rfl
theorem in_J8 : ∀ w ∈ wsJ80, w ∈ lw_all := lw_in wsJ80 [1507] (by decide +kernel) (by decide +kernel)
/-! java/lang/String -/
set_option maxRecDepth 100000
def RJ9 : String := "java/lang/String"
def TJ9 : u_T := fun k => match k with
  | 0 => ("java/lang/String", "value", "[B", true)
  | 1 => ("java/lang/String", "coder", "B", true)
  | 2 => ("java/lang/String", "hash", "I", false)
  | _ => ("java/lang/String", "hashIsZero", "Z", false)
def tyJ9 : Nat → FieldType := fun k => match k with
  | 0 => .array .byte
  | 1 => .byte
  | 2 => .int
  | _ => .boolean
abbrev wsJ90 : List Cond := u_ws RJ9 TJ9 4
theorem nmJ9 : ∀ a, a < 4 → ∀ b, b < 4 → a ≠ b → (TJ9 a).2.1 ≠ (TJ9 b).2.1 := by decide +kernel
theorem tyJ9_ok : ∀ k, k < 4 → parseFieldDescriptor (TJ9 k).2.2.1 = some (tyJ9 k) := by decide +kernel
abbrev cJ9_checkBoundsBeginEnd : ByteArray := prog_35_method_158_code
def yJ9_checkBoundsBeginEnd : MethodName := ⟨RJ9, "checkBoundsBeginEnd", "(III)V"⟩
def dkwJ9_checkBoundsBeginEnd_0 : List UInt8 := [26, 27, 28, 178, 4, 29, 184, 4, 38, 87, 177]
abbrev dktJ9_checkBoundsBeginEnd_0 : List UInt8 := dkwJ9_checkBoundsBeginEnd_0 ++ []
theorem dksJ9_checkBoundsBeginEnd_0 : cJ9_checkBoundsBeginEnd.data.toList.drop 0 = dktJ9_checkBoundsBeginEnd_0 := by decide +kernel
theorem dJ9_checkBoundsBeginEnd_0 : decode cJ9_checkBoundsBeginEnd 0 = .ok (.iload_n 0, 1) := dk_26 (dk_at dksJ9_checkBoundsBeginEnd_0 0 rfl rfl)
theorem dJ9_checkBoundsBeginEnd_1 : decode cJ9_checkBoundsBeginEnd 1 = .ok (.iload_n 1, 1) := dk_27 (dk_at dksJ9_checkBoundsBeginEnd_0 1 rfl rfl)
theorem dJ9_checkBoundsBeginEnd_2 : decode cJ9_checkBoundsBeginEnd 2 = .ok (.iload_n 2, 1) := dk_28 (dk_at dksJ9_checkBoundsBeginEnd_0 2 rfl rfl)
theorem dJ9_checkBoundsBeginEnd_3 : decode cJ9_checkBoundsBeginEnd 3 = .ok (.getstatic 1053, 3) := dk_178 4 29 (dk_at dksJ9_checkBoundsBeginEnd_0 3 rfl rfl)
theorem dJ9_checkBoundsBeginEnd_6 : decode cJ9_checkBoundsBeginEnd 6 = .ok (.invokestatic 1062, 3) := dk_184 4 38 (dk_at dksJ9_checkBoundsBeginEnd_0 6 rfl rfl)
theorem dJ9_checkBoundsBeginEnd_9 : decode cJ9_checkBoundsBeginEnd 9 = .ok (.pop, 1) := dk_87 (dk_at dksJ9_checkBoundsBeginEnd_0 9 rfl rfl)
theorem dJ9_checkBoundsBeginEnd_10 : decode cJ9_checkBoundsBeginEnd 10 = .ok (.return_, 1) := dk_177 (dk_at dksJ9_checkBoundsBeginEnd_0 10 rfl rfl)
abbrev cJ9_length : ByteArray := prog_35_method_54_code
def yJ9_length : MethodName := ⟨RJ9, "length", "()I"⟩
def dkwJ9_length_0 : List UInt8 := [42, 180, 0, 9, 190, 42, 182, 1, 79, 122, 172]
abbrev dktJ9_length_0 : List UInt8 := dkwJ9_length_0 ++ []
theorem dksJ9_length_0 : cJ9_length.data.toList.drop 0 = dktJ9_length_0 := by decide +kernel
theorem dJ9_length_0 : decode cJ9_length 0 = .ok (.aload_n 0, 1) := dk_42 (dk_at dksJ9_length_0 0 rfl rfl)
theorem dJ9_length_1 : decode cJ9_length 1 = .ok (.getfield 9, 3) := dk_180 0 9 (dk_at dksJ9_length_0 1 rfl rfl)
theorem dJ9_length_4 : decode cJ9_length 4 = .ok (.arraylength, 1) := dk_190 (dk_at dksJ9_length_0 4 rfl rfl)
theorem dJ9_length_5 : decode cJ9_length 5 = .ok (.aload_n 0, 1) := dk_42 (dk_at dksJ9_length_0 5 rfl rfl)
theorem dJ9_length_6 : decode cJ9_length 6 = .ok (.invokevirtual 335, 3) := dk_182 1 79 (dk_at dksJ9_length_0 6 rfl rfl)
theorem dJ9_length_9 : decode cJ9_length 9 = .ok (.ishr, 1) := dk_122 (dk_at dksJ9_length_0 9 rfl rfl)
theorem dJ9_length_10 : decode cJ9_length 10 = .ok (.ireturn, 1) := dk_172 (dk_at dksJ9_length_0 10 rfl rfl)
abbrev cJ9_coder : ByteArray := prog_35_method_152_code
def yJ9_coder : MethodName := ⟨RJ9, "coder", "()B"⟩
def dkwJ9_coder_0 : List UInt8 := [178, 0, 38, 153, 0, 10, 42, 180, 0, 15, 167, 0, 4, 4, 172]
abbrev dktJ9_coder_0 : List UInt8 := dkwJ9_coder_0 ++ []
theorem dksJ9_coder_0 : cJ9_coder.data.toList.drop 0 = dktJ9_coder_0 := by decide +kernel
theorem dJ9_coder_0 : decode cJ9_coder 0 = .ok (.getstatic 38, 3) := dk_178 0 38 (dk_at dksJ9_coder_0 0 rfl rfl)
theorem dJ9_coder_3 : decode cJ9_coder 3 = .ok (.ifCond .eq 10, 3) := dk_153 0 10 (dk_at dksJ9_coder_0 3 rfl rfl)
theorem dJ9_coder_6 : decode cJ9_coder 6 = .ok (.aload_n 0, 1) := dk_42 (dk_at dksJ9_coder_0 6 rfl rfl)
theorem dJ9_coder_7 : decode cJ9_coder 7 = .ok (.getfield 15, 3) := dk_180 0 15 (dk_at dksJ9_coder_0 7 rfl rfl)
theorem dJ9_coder_10 : decode cJ9_coder 10 = .ok (.goto 4, 3) := dk_167 0 4 (dk_at dksJ9_coder_0 10 rfl rfl)
theorem dJ9_coder_13 : decode cJ9_coder 13 = .ok (.iconst 1, 1) := dk_4 (dk_at dksJ9_coder_0 13 rfl rfl)
theorem dJ9_coder_14 : decode cJ9_coder 14 = .ok (.ireturn, 1) := dk_172 (dk_at dksJ9_coder_0 14 rfl rfl)
abbrev cJ9_checkBoundsOffCount : ByteArray := prog_35_method_157_code
def yJ9_checkBoundsOffCount : MethodName := ⟨RJ9, "checkBoundsOffCount", "(III)I"⟩
def dkwJ9_checkBoundsOffCount_0 : List UInt8 := [26, 27, 28, 178, 4, 29, 184, 4, 41, 172]
abbrev dktJ9_checkBoundsOffCount_0 : List UInt8 := dkwJ9_checkBoundsOffCount_0 ++ []
theorem dksJ9_checkBoundsOffCount_0 : cJ9_checkBoundsOffCount.data.toList.drop 0 = dktJ9_checkBoundsOffCount_0 := by decide +kernel
theorem dJ9_checkBoundsOffCount_0 : decode cJ9_checkBoundsOffCount 0 = .ok (.iload_n 0, 1) := dk_26 (dk_at dksJ9_checkBoundsOffCount_0 0 rfl rfl)
theorem dJ9_checkBoundsOffCount_1 : decode cJ9_checkBoundsOffCount 1 = .ok (.iload_n 1, 1) := dk_27 (dk_at dksJ9_checkBoundsOffCount_0 1 rfl rfl)
theorem dJ9_checkBoundsOffCount_2 : decode cJ9_checkBoundsOffCount 2 = .ok (.iload_n 2, 1) := dk_28 (dk_at dksJ9_checkBoundsOffCount_0 2 rfl rfl)
theorem dJ9_checkBoundsOffCount_3 : decode cJ9_checkBoundsOffCount 3 = .ok (.getstatic 1053, 3) := dk_178 4 29 (dk_at dksJ9_checkBoundsOffCount_0 3 rfl rfl)
theorem dJ9_checkBoundsOffCount_6 : decode cJ9_checkBoundsOffCount 6 = .ok (.invokestatic 1065, 3) := dk_184 4 41 (dk_at dksJ9_checkBoundsOffCount_0 6 rfl rfl)
theorem dJ9_checkBoundsOffCount_9 : decode cJ9_checkBoundsOffCount 9 = .ok (.ireturn, 1) := dk_172 (dk_at dksJ9_checkBoundsOffCount_0 9 rfl rfl)
abbrev cJ9_getBytes : ByteArray := prog_35_method_147_code
def yJ9_getBytes : MethodName := ⟨RJ9, "getBytes", "([BIB)V"⟩
def dkwJ9_getBytes_1 : List UInt8 := [184, 0, 212, 167, 0, 18, 42, 180, 0, 9, 3, 43, 28, 42, 180, 0, 9, 190, 184, 0, 106, 177]
abbrev dktJ9_getBytes_1 : List UInt8 := dkwJ9_getBytes_1 ++ []
def dkwJ9_getBytes_0 : List UInt8 := [42, 182, 1, 79, 29, 160, 0, 23, 42, 180, 0, 9, 3, 43, 28, 29, 120, 42, 180, 0, 9, 190]
abbrev dktJ9_getBytes_0 : List UInt8 := dkwJ9_getBytes_0 ++ dktJ9_getBytes_1
theorem dksJ9_getBytes_0 : cJ9_getBytes.data.toList.drop 0 = dktJ9_getBytes_0 := by decide +kernel
theorem dksJ9_getBytes_1 : cJ9_getBytes.data.toList.drop 22 = dktJ9_getBytes_1 := dk_seg dksJ9_getBytes_0 22 rfl rfl
theorem dJ9_getBytes_0 : decode cJ9_getBytes 0 = .ok (.aload_n 0, 1) := dk_42 (dk_at dksJ9_getBytes_0 0 rfl rfl)
theorem dJ9_getBytes_1 : decode cJ9_getBytes 1 = .ok (.invokevirtual 335, 3) := dk_182 1 79 (dk_at dksJ9_getBytes_0 1 rfl rfl)
theorem dJ9_getBytes_4 : decode cJ9_getBytes 4 = .ok (.iload_n 3, 1) := dk_29 (dk_at dksJ9_getBytes_0 4 rfl rfl)
theorem dJ9_getBytes_5 : decode cJ9_getBytes 5 = .ok (.if_icmp .ne 23, 3) := dk_160 0 23 (dk_at dksJ9_getBytes_0 5 rfl rfl)
theorem dJ9_getBytes_8 : decode cJ9_getBytes 8 = .ok (.aload_n 0, 1) := dk_42 (dk_at dksJ9_getBytes_0 8 rfl rfl)
theorem dJ9_getBytes_9 : decode cJ9_getBytes 9 = .ok (.getfield 9, 3) := dk_180 0 9 (dk_at dksJ9_getBytes_0 9 rfl rfl)
theorem dJ9_getBytes_12 : decode cJ9_getBytes 12 = .ok (.iconst 0, 1) := dk_3 (dk_at dksJ9_getBytes_0 12 rfl rfl)
theorem dJ9_getBytes_13 : decode cJ9_getBytes 13 = .ok (.aload_n 1, 1) := dk_43 (dk_at dksJ9_getBytes_0 13 rfl rfl)
theorem dJ9_getBytes_14 : decode cJ9_getBytes 14 = .ok (.iload_n 2, 1) := dk_28 (dk_at dksJ9_getBytes_0 14 rfl rfl)
theorem dJ9_getBytes_15 : decode cJ9_getBytes 15 = .ok (.iload_n 3, 1) := dk_29 (dk_at dksJ9_getBytes_0 15 rfl rfl)
theorem dJ9_getBytes_16 : decode cJ9_getBytes 16 = .ok (.ishl, 1) := dk_120 (dk_at dksJ9_getBytes_0 16 rfl rfl)
theorem dJ9_getBytes_17 : decode cJ9_getBytes 17 = .ok (.aload_n 0, 1) := dk_42 (dk_at dksJ9_getBytes_0 17 rfl rfl)
theorem dJ9_getBytes_18 : decode cJ9_getBytes 18 = .ok (.getfield 9, 3) := dk_180 0 9 (dk_at dksJ9_getBytes_0 18 rfl rfl)
theorem dJ9_getBytes_21 : decode cJ9_getBytes 21 = .ok (.arraylength, 1) := dk_190 (dk_at dksJ9_getBytes_0 21 rfl rfl)
theorem dJ9_getBytes_22 : decode cJ9_getBytes 22 = .ok (.invokestatic 212, 3) := dk_184 0 212 (dk_at dksJ9_getBytes_1 0 rfl rfl)
theorem dJ9_getBytes_25 : decode cJ9_getBytes 25 = .ok (.goto 18, 3) := dk_167 0 18 (dk_at dksJ9_getBytes_1 3 rfl rfl)
theorem dJ9_getBytes_28 : decode cJ9_getBytes 28 = .ok (.aload_n 0, 1) := dk_42 (dk_at dksJ9_getBytes_1 6 rfl rfl)
theorem dJ9_getBytes_29 : decode cJ9_getBytes 29 = .ok (.getfield 9, 3) := dk_180 0 9 (dk_at dksJ9_getBytes_1 7 rfl rfl)
theorem dJ9_getBytes_32 : decode cJ9_getBytes 32 = .ok (.iconst 0, 1) := dk_3 (dk_at dksJ9_getBytes_1 10 rfl rfl)
theorem dJ9_getBytes_33 : decode cJ9_getBytes 33 = .ok (.aload_n 1, 1) := dk_43 (dk_at dksJ9_getBytes_1 11 rfl rfl)
theorem dJ9_getBytes_34 : decode cJ9_getBytes 34 = .ok (.iload_n 2, 1) := dk_28 (dk_at dksJ9_getBytes_1 12 rfl rfl)
theorem dJ9_getBytes_35 : decode cJ9_getBytes 35 = .ok (.aload_n 0, 1) := dk_42 (dk_at dksJ9_getBytes_1 13 rfl rfl)
theorem dJ9_getBytes_36 : decode cJ9_getBytes 36 = .ok (.getfield 9, 3) := dk_180 0 9 (dk_at dksJ9_getBytes_1 14 rfl rfl)
theorem dJ9_getBytes_39 : decode cJ9_getBytes 39 = .ok (.arraylength, 1) := dk_190 (dk_at dksJ9_getBytes_1 17 rfl rfl)
theorem dJ9_getBytes_40 : decode cJ9_getBytes 40 = .ok (.invokestatic 106, 3) := dk_184 0 106 (dk_at dksJ9_getBytes_1 18 rfl rfl)
theorem dJ9_getBytes_43 : decode cJ9_getBytes 43 = .ok (.return_, 1) := dk_177 (dk_at dksJ9_getBytes_1 21 rfl rfl)
abbrev cJ9_init : ByteArray := prog_35_method_53_code
def yJ9_init : MethodName := ⟨RJ9, "<init>", "(Ljava/lang/StringBuilder;)V"⟩
def dkwJ9_init_0 : List UInt8 := [42, 43, 1, 183, 1, 233, 177]
abbrev dktJ9_init_0 : List UInt8 := dkwJ9_init_0 ++ []
theorem dksJ9_init_0 : cJ9_init.data.toList.drop 0 = dktJ9_init_0 := by decide +kernel
theorem dJ9_init_0 : decode cJ9_init 0 = .ok (.aload_n 0, 1) := dk_42 (dk_at dksJ9_init_0 0 rfl rfl)
theorem dJ9_init_1 : decode cJ9_init 1 = .ok (.aload_n 1, 1) := dk_43 (dk_at dksJ9_init_0 1 rfl rfl)
theorem dJ9_init_2 : decode cJ9_init 2 = .ok (.aconst_null, 1) := dk_1 (dk_at dksJ9_init_0 2 rfl rfl)
theorem dJ9_init_3 : decode cJ9_init 3 = .ok (.invokespecial 489, 3) := dk_183 1 233 (dk_at dksJ9_init_0 3 rfl rfl)
theorem dJ9_init_6 : decode cJ9_init 6 = .ok (.return_, 1) := dk_177 (dk_at dksJ9_init_0 6 rfl rfl)
abbrev cJ9_init_2 : ByteArray := prog_35_method_150_code
def yJ9_init_2 : MethodName := ⟨RJ9, "<init>", "(Ljava/lang/AbstractStringBuilder;Ljava/lang/Void;)V"⟩
def dkwJ9_init_2_4 : List UInt8 := [181, 0, 9, 177]
abbrev dktJ9_init_2_4 : List UInt8 := dkwJ9_init_2_4 ++ []
def dkwJ9_init_2_3 : List UInt8 := [184, 0, 47, 181, 0, 15, 177, 42, 4, 181, 0, 15, 42, 45, 3, 21, 4, 4, 120, 184, 0, 54]
abbrev dktJ9_init_2_3 : List UInt8 := dkwJ9_init_2_3 ++ dktJ9_init_2_4
def dkwJ9_init_2_2 : List UInt8 := [180, 4, 24, 153, 0, 28, 42, 45, 3, 21, 4, 184, 4, 27, 181, 0, 9, 42, 42, 180, 0, 9, 21, 4]
abbrev dktJ9_init_2_2 : List UInt8 := dkwJ9_init_2_2 ++ dktJ9_init_2_3
def dkwJ9_init_2_1 : List UInt8 := [181, 0, 15, 42, 45, 3, 21, 4, 184, 0, 54, 181, 0, 9, 167, 0, 59, 178, 0, 38, 153, 0, 35, 43]
abbrev dktJ9_init_2_1 : List UInt8 := dkwJ9_init_2_1 ++ dktJ9_init_2_2
def dkwJ9_init_2_0 : List UInt8 := [42, 183, 0, 1, 43, 182, 2, 40, 78, 43, 182, 2, 37, 54, 4, 43, 182, 4, 23, 153, 0, 22, 42, 3]
abbrev dktJ9_init_2_0 : List UInt8 := dkwJ9_init_2_0 ++ dktJ9_init_2_1
theorem dksJ9_init_2_0 : cJ9_init_2.data.toList.drop 0 = dktJ9_init_2_0 := by decide +kernel
theorem dksJ9_init_2_1 : cJ9_init_2.data.toList.drop 24 = dktJ9_init_2_1 := dk_seg dksJ9_init_2_0 24 rfl rfl
theorem dksJ9_init_2_2 : cJ9_init_2.data.toList.drop 48 = dktJ9_init_2_2 := dk_seg dksJ9_init_2_1 24 rfl rfl
theorem dksJ9_init_2_3 : cJ9_init_2.data.toList.drop 72 = dktJ9_init_2_3 := dk_seg dksJ9_init_2_2 24 rfl rfl
theorem dksJ9_init_2_4 : cJ9_init_2.data.toList.drop 94 = dktJ9_init_2_4 := dk_seg dksJ9_init_2_3 22 rfl rfl
theorem dJ9_init_2_0 : decode cJ9_init_2 0 = .ok (.aload_n 0, 1) := dk_42 (dk_at dksJ9_init_2_0 0 rfl rfl)
theorem dJ9_init_2_1 : decode cJ9_init_2 1 = .ok (.invokespecial 1, 3) := dk_183 0 1 (dk_at dksJ9_init_2_0 1 rfl rfl)
theorem dJ9_init_2_4 : decode cJ9_init_2 4 = .ok (.aload_n 1, 1) := dk_43 (dk_at dksJ9_init_2_0 4 rfl rfl)
theorem dJ9_init_2_5 : decode cJ9_init_2 5 = .ok (.invokevirtual 552, 3) := dk_182 2 40 (dk_at dksJ9_init_2_0 5 rfl rfl)
theorem dJ9_init_2_8 : decode cJ9_init_2 8 = .ok (.astore_n 3, 1) := dk_78 (dk_at dksJ9_init_2_0 8 rfl rfl)
theorem dJ9_init_2_9 : decode cJ9_init_2 9 = .ok (.aload_n 1, 1) := dk_43 (dk_at dksJ9_init_2_0 9 rfl rfl)
theorem dJ9_init_2_10 : decode cJ9_init_2 10 = .ok (.invokevirtual 549, 3) := dk_182 2 37 (dk_at dksJ9_init_2_0 10 rfl rfl)
theorem dJ9_init_2_13 : decode cJ9_init_2 13 = .ok (.istore 4, 2) := dk_54 4 (dk_at dksJ9_init_2_0 13 rfl rfl)
theorem dJ9_init_2_15 : decode cJ9_init_2 15 = .ok (.aload_n 1, 1) := dk_43 (dk_at dksJ9_init_2_0 15 rfl rfl)
theorem dJ9_init_2_16 : decode cJ9_init_2 16 = .ok (.invokevirtual 1047, 3) := dk_182 4 23 (dk_at dksJ9_init_2_0 16 rfl rfl)
theorem dJ9_init_2_19 : decode cJ9_init_2 19 = .ok (.ifCond .eq 22, 3) := dk_153 0 22 (dk_at dksJ9_init_2_0 19 rfl rfl)
theorem dJ9_init_2_22 : decode cJ9_init_2 22 = .ok (.aload_n 0, 1) := dk_42 (dk_at dksJ9_init_2_0 22 rfl rfl)
theorem dJ9_init_2_23 : decode cJ9_init_2 23 = .ok (.iconst 0, 1) := dk_3 (dk_at dksJ9_init_2_0 23 rfl rfl)
theorem dJ9_init_2_24 : decode cJ9_init_2 24 = .ok (.putfield 15, 3) := dk_181 0 15 (dk_at dksJ9_init_2_1 0 rfl rfl)
theorem dJ9_init_2_27 : decode cJ9_init_2 27 = .ok (.aload_n 0, 1) := dk_42 (dk_at dksJ9_init_2_1 3 rfl rfl)
theorem dJ9_init_2_28 : decode cJ9_init_2 28 = .ok (.aload_n 3, 1) := dk_45 (dk_at dksJ9_init_2_1 4 rfl rfl)
theorem dJ9_init_2_29 : decode cJ9_init_2 29 = .ok (.iconst 0, 1) := dk_3 (dk_at dksJ9_init_2_1 5 rfl rfl)
theorem dJ9_init_2_30 : decode cJ9_init_2 30 = .ok (.iload 4, 2) := dk_21 4 (dk_at dksJ9_init_2_1 6 rfl rfl)
theorem dJ9_init_2_32 : decode cJ9_init_2 32 = .ok (.invokestatic 54, 3) := dk_184 0 54 (dk_at dksJ9_init_2_1 8 rfl rfl)
theorem dJ9_init_2_35 : decode cJ9_init_2 35 = .ok (.putfield 9, 3) := dk_181 0 9 (dk_at dksJ9_init_2_1 11 rfl rfl)
theorem dJ9_init_2_38 : decode cJ9_init_2 38 = .ok (.goto 59, 3) := dk_167 0 59 (dk_at dksJ9_init_2_1 14 rfl rfl)
theorem dJ9_init_2_41 : decode cJ9_init_2 41 = .ok (.getstatic 38, 3) := dk_178 0 38 (dk_at dksJ9_init_2_1 17 rfl rfl)
theorem dJ9_init_2_44 : decode cJ9_init_2 44 = .ok (.ifCond .eq 35, 3) := dk_153 0 35 (dk_at dksJ9_init_2_1 20 rfl rfl)
theorem dJ9_init_2_47 : decode cJ9_init_2 47 = .ok (.aload_n 1, 1) := dk_43 (dk_at dksJ9_init_2_1 23 rfl rfl)
theorem dJ9_init_2_48 : decode cJ9_init_2 48 = .ok (.getfield 1048, 3) := dk_180 4 24 (dk_at dksJ9_init_2_2 0 rfl rfl)
theorem dJ9_init_2_51 : decode cJ9_init_2 51 = .ok (.ifCond .eq 28, 3) := dk_153 0 28 (dk_at dksJ9_init_2_2 3 rfl rfl)
theorem dJ9_init_2_54 : decode cJ9_init_2 54 = .ok (.aload_n 0, 1) := dk_42 (dk_at dksJ9_init_2_2 6 rfl rfl)
theorem dJ9_init_2_55 : decode cJ9_init_2 55 = .ok (.aload_n 3, 1) := dk_45 (dk_at dksJ9_init_2_2 7 rfl rfl)
theorem dJ9_init_2_56 : decode cJ9_init_2 56 = .ok (.iconst 0, 1) := dk_3 (dk_at dksJ9_init_2_2 8 rfl rfl)
theorem dJ9_init_2_57 : decode cJ9_init_2 57 = .ok (.iload 4, 2) := dk_21 4 (dk_at dksJ9_init_2_2 9 rfl rfl)
theorem dJ9_init_2_59 : decode cJ9_init_2 59 = .ok (.invokestatic 1051, 3) := dk_184 4 27 (dk_at dksJ9_init_2_2 11 rfl rfl)
theorem dJ9_init_2_62 : decode cJ9_init_2 62 = .ok (.putfield 9, 3) := dk_181 0 9 (dk_at dksJ9_init_2_2 14 rfl rfl)
theorem dJ9_init_2_65 : decode cJ9_init_2 65 = .ok (.aload_n 0, 1) := dk_42 (dk_at dksJ9_init_2_2 17 rfl rfl)
theorem dJ9_init_2_66 : decode cJ9_init_2 66 = .ok (.aload_n 0, 1) := dk_42 (dk_at dksJ9_init_2_2 18 rfl rfl)
theorem dJ9_init_2_67 : decode cJ9_init_2 67 = .ok (.getfield 9, 3) := dk_180 0 9 (dk_at dksJ9_init_2_2 19 rfl rfl)
theorem dJ9_init_2_70 : decode cJ9_init_2 70 = .ok (.iload 4, 2) := dk_21 4 (dk_at dksJ9_init_2_2 22 rfl rfl)
theorem dJ9_init_2_72 : decode cJ9_init_2 72 = .ok (.invokestatic 47, 3) := dk_184 0 47 (dk_at dksJ9_init_2_3 0 rfl rfl)
theorem dJ9_init_2_75 : decode cJ9_init_2 75 = .ok (.putfield 15, 3) := dk_181 0 15 (dk_at dksJ9_init_2_3 3 rfl rfl)
theorem dJ9_init_2_78 : decode cJ9_init_2 78 = .ok (.return_, 1) := dk_177 (dk_at dksJ9_init_2_3 6 rfl rfl)
theorem dJ9_init_2_79 : decode cJ9_init_2 79 = .ok (.aload_n 0, 1) := dk_42 (dk_at dksJ9_init_2_3 7 rfl rfl)
theorem dJ9_init_2_80 : decode cJ9_init_2 80 = .ok (.iconst 1, 1) := dk_4 (dk_at dksJ9_init_2_3 8 rfl rfl)
theorem dJ9_init_2_81 : decode cJ9_init_2 81 = .ok (.putfield 15, 3) := dk_181 0 15 (dk_at dksJ9_init_2_3 9 rfl rfl)
theorem dJ9_init_2_84 : decode cJ9_init_2 84 = .ok (.aload_n 0, 1) := dk_42 (dk_at dksJ9_init_2_3 12 rfl rfl)
theorem dJ9_init_2_85 : decode cJ9_init_2 85 = .ok (.aload_n 3, 1) := dk_45 (dk_at dksJ9_init_2_3 13 rfl rfl)
theorem dJ9_init_2_86 : decode cJ9_init_2 86 = .ok (.iconst 0, 1) := dk_3 (dk_at dksJ9_init_2_3 14 rfl rfl)
theorem dJ9_init_2_87 : decode cJ9_init_2 87 = .ok (.iload 4, 2) := dk_21 4 (dk_at dksJ9_init_2_3 15 rfl rfl)
theorem dJ9_init_2_89 : decode cJ9_init_2 89 = .ok (.iconst 1, 1) := dk_4 (dk_at dksJ9_init_2_3 17 rfl rfl)
theorem dJ9_init_2_90 : decode cJ9_init_2 90 = .ok (.ishl, 1) := dk_120 (dk_at dksJ9_init_2_3 18 rfl rfl)
theorem dJ9_init_2_91 : decode cJ9_init_2 91 = .ok (.invokestatic 54, 3) := dk_184 0 54 (dk_at dksJ9_init_2_3 19 rfl rfl)
theorem dJ9_init_2_94 : decode cJ9_init_2 94 = .ok (.putfield 9, 3) := dk_181 0 9 (dk_at dksJ9_init_2_4 0 rfl rfl)
theorem dJ9_init_2_97 : decode cJ9_init_2 97 = .ok (.return_, 1) := dk_177 (dk_at dksJ9_init_2_4 3 rfl rfl)
abbrev cJ9_equals : ByteArray := prog_35_method_66_code
def yJ9_equals : MethodName := ⟨RJ9, "equals", "(Ljava/lang/Object;)Z"⟩
def dkwJ9_equals_2 : List UInt8 := [184, 2, 29, 153, 0, 7, 4, 167, 0, 4, 3, 172]
abbrev dktJ9_equals_2 : List UInt8 := dkwJ9_equals_2 ++ []
def dkwJ9_equals_1 : List UInt8 := [153, 0, 14, 42, 180, 0, 15, 44, 180, 0, 15, 160, 0, 21, 42, 180, 0, 9, 44, 180, 0, 9]
abbrev dktJ9_equals_1 : List UInt8 := dkwJ9_equals_1 ++ dktJ9_equals_2
def dkwJ9_equals_0 : List UInt8 := [42, 43, 166, 0, 5, 4, 172, 43, 193, 0, 10, 153, 0, 43, 43, 192, 0, 10, 77, 178, 0, 38]
abbrev dktJ9_equals_0 : List UInt8 := dkwJ9_equals_0 ++ dktJ9_equals_1
theorem dksJ9_equals_0 : cJ9_equals.data.toList.drop 0 = dktJ9_equals_0 := by decide +kernel
theorem dksJ9_equals_1 : cJ9_equals.data.toList.drop 22 = dktJ9_equals_1 := dk_seg dksJ9_equals_0 22 rfl rfl
theorem dksJ9_equals_2 : cJ9_equals.data.toList.drop 44 = dktJ9_equals_2 := dk_seg dksJ9_equals_1 22 rfl rfl
theorem dJ9_equals_0 : decode cJ9_equals 0 = .ok (.aload_n 0, 1) := dk_42 (dk_at dksJ9_equals_0 0 rfl rfl)
theorem dJ9_equals_1 : decode cJ9_equals 1 = .ok (.aload_n 1, 1) := dk_43 (dk_at dksJ9_equals_0 1 rfl rfl)
theorem dJ9_equals_2 : decode cJ9_equals 2 = .ok (.if_acmp .ne 5, 3) := dk_166 0 5 (dk_at dksJ9_equals_0 2 rfl rfl)
theorem dJ9_equals_5 : decode cJ9_equals 5 = .ok (.iconst 1, 1) := dk_4 (dk_at dksJ9_equals_0 5 rfl rfl)
theorem dJ9_equals_6 : decode cJ9_equals 6 = .ok (.ireturn, 1) := dk_172 (dk_at dksJ9_equals_0 6 rfl rfl)
theorem dJ9_equals_7 : decode cJ9_equals 7 = .ok (.aload_n 1, 1) := dk_43 (dk_at dksJ9_equals_0 7 rfl rfl)
theorem dJ9_equals_8 : decode cJ9_equals 8 = .ok (.instanceof 10, 3) := dk_193 0 10 (dk_at dksJ9_equals_0 8 rfl rfl)
theorem dJ9_equals_11 : decode cJ9_equals 11 = .ok (.ifCond .eq 43, 3) := dk_153 0 43 (dk_at dksJ9_equals_0 11 rfl rfl)
theorem dJ9_equals_14 : decode cJ9_equals 14 = .ok (.aload_n 1, 1) := dk_43 (dk_at dksJ9_equals_0 14 rfl rfl)
theorem dJ9_equals_15 : decode cJ9_equals 15 = .ok (.checkcast 10, 3) := dk_192 0 10 (dk_at dksJ9_equals_0 15 rfl rfl)
theorem dJ9_equals_18 : decode cJ9_equals 18 = .ok (.astore_n 2, 1) := dk_77 (dk_at dksJ9_equals_0 18 rfl rfl)
theorem dJ9_equals_19 : decode cJ9_equals 19 = .ok (.getstatic 38, 3) := dk_178 0 38 (dk_at dksJ9_equals_0 19 rfl rfl)
theorem dJ9_equals_22 : decode cJ9_equals 22 = .ok (.ifCond .eq 14, 3) := dk_153 0 14 (dk_at dksJ9_equals_1 0 rfl rfl)
theorem dJ9_equals_25 : decode cJ9_equals 25 = .ok (.aload_n 0, 1) := dk_42 (dk_at dksJ9_equals_1 3 rfl rfl)
theorem dJ9_equals_26 : decode cJ9_equals 26 = .ok (.getfield 15, 3) := dk_180 0 15 (dk_at dksJ9_equals_1 4 rfl rfl)
theorem dJ9_equals_29 : decode cJ9_equals 29 = .ok (.aload_n 2, 1) := dk_44 (dk_at dksJ9_equals_1 7 rfl rfl)
theorem dJ9_equals_30 : decode cJ9_equals 30 = .ok (.getfield 15, 3) := dk_180 0 15 (dk_at dksJ9_equals_1 8 rfl rfl)
theorem dJ9_equals_33 : decode cJ9_equals 33 = .ok (.if_icmp .ne 21, 3) := dk_160 0 21 (dk_at dksJ9_equals_1 11 rfl rfl)
theorem dJ9_equals_36 : decode cJ9_equals 36 = .ok (.aload_n 0, 1) := dk_42 (dk_at dksJ9_equals_1 14 rfl rfl)
theorem dJ9_equals_37 : decode cJ9_equals 37 = .ok (.getfield 9, 3) := dk_180 0 9 (dk_at dksJ9_equals_1 15 rfl rfl)
theorem dJ9_equals_40 : decode cJ9_equals 40 = .ok (.aload_n 2, 1) := dk_44 (dk_at dksJ9_equals_1 18 rfl rfl)
theorem dJ9_equals_41 : decode cJ9_equals 41 = .ok (.getfield 9, 3) := dk_180 0 9 (dk_at dksJ9_equals_1 19 rfl rfl)
theorem dJ9_equals_44 : decode cJ9_equals 44 = .ok (.invokestatic 541, 3) := dk_184 2 29 (dk_at dksJ9_equals_2 0 rfl rfl)
theorem dJ9_equals_47 : decode cJ9_equals 47 = .ok (.ifCond .eq 7, 3) := dk_153 0 7 (dk_at dksJ9_equals_2 3 rfl rfl)
theorem dJ9_equals_50 : decode cJ9_equals 50 = .ok (.iconst 1, 1) := dk_4 (dk_at dksJ9_equals_2 6 rfl rfl)
theorem dJ9_equals_51 : decode cJ9_equals 51 = .ok (.goto 4, 3) := dk_167 0 4 (dk_at dksJ9_equals_2 7 rfl rfl)
theorem dJ9_equals_54 : decode cJ9_equals 54 = .ok (.iconst 0, 1) := dk_3 (dk_at dksJ9_equals_2 10 rfl rfl)
theorem dJ9_equals_55 : decode cJ9_equals 55 = .ok (.ireturn, 1) := dk_172 (dk_at dksJ9_equals_2 11 rfl rfl)
theorem q84 : (Jvm.Cond.initialized "java/lang/String") ∈ lw_all := lw_g (lw_at lw_m1 21 rfl) rfl
theorem q270 : (Jvm.Cond.selects "java/lang/String" ({ cls := "java/lang/Object", name := "getClass", desc := "()Ljava/lang/Class;" } : Jvm.MethodName) ({ cls := "java/lang/Object", name := "getClass", desc := "()Ljava/lang/Class;" } : Jvm.MethodName)) ∈ lw_all := lw_g (lw_at lw_m1 207 rfl) rfl
theorem q720 : (Jvm.Cond.laysStatic "java/lang/String" "COMPACT_STRINGS" "Z") ∈ lw_tbl := lw_at lw_m3 177 rfl
theorem q730 : (Jvm.Cond.fieldLink "java/lang/String" (1048 : Nat) "java/lang/AbstractStringBuilder" "maybeLatin1" "Z") ∈ lw_all := lw_g (lw_at lw_m3 187 rfl) rfl
theorem q790 : (Jvm.Cond.static ({ cls := "java/lang/String", name := "checkBoundsBeginEnd", desc := "(III)V" } : Jvm.MethodName)) ∈ lw_all := lw_g (lw_at lw_m4 7 rfl) rfl
theorem q791 : (Jvm.Cond.code ({ cls := "java/lang/String", name := "checkBoundsBeginEnd", desc := "(III)V" } : Jvm.MethodName) prog_35_method_158_code (3 : Nat) (Option.none : Option Jvm.ClassFile.FieldType)) ∈ lw_all := lw_g (lw_at lw_m4 8 rfl) rfl
theorem q792 : (Jvm.Cond.fieldLink "java/lang/String" (1053 : Nat) "jdk/internal/util/Preconditions" "SIOOBE_FORMATTER" "Ljava/util/function/BiFunction;") ∈ lw_all := lw_g (lw_at lw_m4 9 rfl) rfl
theorem q794 : (Jvm.Cond.methodLink "java/lang/String" (1062 : Nat) ({ cls := "jdk/internal/util/Preconditions", name := "checkFromToIndex", desc := "(IIILjava/util/function/BiFunction;)I" } : Jvm.MethodName)) ∈ lw_all := lw_g (lw_at lw_m4 11 rfl) rfl
theorem q807 : (Jvm.Cond.instanceMethod ({ cls := "java/lang/String", name := "length", desc := "()I" } : Jvm.MethodName)) ∈ lw_all := lw_g (lw_at lw_m4 24 rfl) rfl
theorem q808 : (Jvm.Cond.selects "java/lang/String" ({ cls := "java/lang/String", name := "length", desc := "()I" } : Jvm.MethodName) ({ cls := "java/lang/String", name := "length", desc := "()I" } : Jvm.MethodName)) ∈ lw_all := lw_g (lw_at lw_m4 25 rfl) rfl
theorem q809 : (Jvm.Cond.code ({ cls := "java/lang/String", name := "length", desc := "()I" } : Jvm.MethodName) prog_35_method_54_code (1 : Nat) (Option.some Jvm.ClassFile.FieldType.int)) ∈ lw_all := lw_g (lw_at lw_m4 26 rfl) rfl
theorem q810 : (Jvm.Cond.methodLink "java/lang/String" (335 : Nat) ({ cls := "java/lang/String", name := "coder", desc := "()B" } : Jvm.MethodName)) ∈ lw_all := lw_g (lw_at lw_m4 27 rfl) rfl
theorem q811 : (Jvm.Cond.instanceMethod ({ cls := "java/lang/String", name := "coder", desc := "()B" } : Jvm.MethodName)) ∈ lw_all := lw_g (lw_at lw_m4 28 rfl) rfl
theorem q812 : (Jvm.Cond.selects "java/lang/String" ({ cls := "java/lang/String", name := "coder", desc := "()B" } : Jvm.MethodName) ({ cls := "java/lang/String", name := "coder", desc := "()B" } : Jvm.MethodName)) ∈ lw_all := lw_g (lw_at lw_m4 29 rfl) rfl
theorem q813 : (Jvm.Cond.code ({ cls := "java/lang/String", name := "coder", desc := "()B" } : Jvm.MethodName) prog_35_method_152_code (1 : Nat) (Option.some Jvm.ClassFile.FieldType.byte)) ∈ lw_all := lw_g (lw_at lw_m4 30 rfl) rfl
theorem q814 : (Jvm.Cond.fieldLink "java/lang/String" (38 : Nat) "java/lang/String" "COMPACT_STRINGS" "Z") ∈ lw_all := lw_g (lw_at lw_m4 31 rfl) rfl
theorem q838 : (Jvm.Cond.static ({ cls := "java/lang/String", name := "checkBoundsOffCount", desc := "(III)I" } : Jvm.MethodName)) ∈ lw_all := lw_g (lw_at lw_m4 55 rfl) rfl
theorem q839 : (Jvm.Cond.code ({ cls := "java/lang/String", name := "checkBoundsOffCount", desc := "(III)I" } : Jvm.MethodName) prog_35_method_157_code (3 : Nat) (Option.some Jvm.ClassFile.FieldType.int)) ∈ lw_all := lw_g (lw_at lw_m4 56 rfl) rfl
theorem q840 : (Jvm.Cond.methodLink "java/lang/String" (1065 : Nat) ({ cls := "jdk/internal/util/Preconditions", name := "checkFromIndexSize", desc := "(IIILjava/util/function/BiFunction;)I" } : Jvm.MethodName)) ∈ lw_all := lw_g (lw_at lw_m4 57 rfl) rfl
theorem q844 : (Jvm.Cond.instanceMethod ({ cls := "java/lang/String", name := "getBytes", desc := "([BIB)V" } : Jvm.MethodName)) ∈ lw_all := lw_g (lw_at lw_m4 61 rfl) rfl
theorem q845 : (Jvm.Cond.selects "java/lang/String" ({ cls := "java/lang/String", name := "getBytes", desc := "([BIB)V" } : Jvm.MethodName) ({ cls := "java/lang/String", name := "getBytes", desc := "([BIB)V" } : Jvm.MethodName)) ∈ lw_all := lw_g (lw_at lw_m4 62 rfl) rfl
theorem q846 : (Jvm.Cond.code ({ cls := "java/lang/String", name := "getBytes", desc := "([BIB)V" } : Jvm.MethodName) prog_35_method_147_code (4 : Nat) (Option.none : Option Jvm.ClassFile.FieldType)) ∈ lw_all := lw_g (lw_at lw_m4 63 rfl) rfl
theorem q847 : (Jvm.Cond.methodLink "java/lang/String" (212 : Nat) ({ cls := "java/lang/System", name := "arraycopy", desc := "(Ljava/lang/Object;ILjava/lang/Object;II)V" } : Jvm.MethodName)) ∈ lw_all := lw_g (lw_at lw_m4 64 rfl) rfl
theorem q848 : (Jvm.Cond.methodLink "java/lang/String" (106 : Nat) ({ cls := "java/lang/StringLatin1", name := "inflate", desc := "([BI[BII)V" } : Jvm.MethodName)) ∈ lw_all := lw_g (lw_at lw_m4 65 rfl) rfl
theorem q880 : (Jvm.Cond.instantiable "java/lang/String" (4 : Nat)) ∈ lw_all := lw_g (lw_at lw_m4 97 rfl) rfl
theorem q882 : (Jvm.Cond.instanceMethod ({ cls := "java/lang/String", name := "<init>", desc := "(Ljava/lang/StringBuilder;)V" } : Jvm.MethodName)) ∈ lw_all := lw_g (lw_at lw_m4 99 rfl) rfl
theorem q883 : (Jvm.Cond.code ({ cls := "java/lang/String", name := "<init>", desc := "(Ljava/lang/StringBuilder;)V" } : Jvm.MethodName) prog_35_method_53_code (2 : Nat) (Option.none : Option Jvm.ClassFile.FieldType)) ∈ lw_all := lw_g (lw_at lw_m4 100 rfl) rfl
theorem q884 : (Jvm.Cond.methodLink "java/lang/String" (489 : Nat) ({ cls := "java/lang/String", name := "<init>", desc := "(Ljava/lang/AbstractStringBuilder;Ljava/lang/Void;)V" } : Jvm.MethodName)) ∈ lw_all := lw_g (lw_at lw_m4 101 rfl) rfl
theorem q885 : (Jvm.Cond.instanceMethod ({ cls := "java/lang/String", name := "<init>", desc := "(Ljava/lang/AbstractStringBuilder;Ljava/lang/Void;)V" } : Jvm.MethodName)) ∈ lw_all := lw_g (lw_at lw_m4 102 rfl) rfl
theorem q886 : (Jvm.Cond.code ({ cls := "java/lang/String", name := "<init>", desc := "(Ljava/lang/AbstractStringBuilder;Ljava/lang/Void;)V" } : Jvm.MethodName) prog_35_method_150_code (5 : Nat) (Option.none : Option Jvm.ClassFile.FieldType)) ∈ lw_all := lw_g (lw_at lw_m4 103 rfl) rfl
theorem q887 : (Jvm.Cond.methodLink "java/lang/String" (1 : Nat) ({ cls := "java/lang/Object", name := "<init>", desc := "()V" } : Jvm.MethodName)) ∈ lw_all := lw_g (lw_at lw_m4 104 rfl) rfl
theorem q888 : (Jvm.Cond.methodLink "java/lang/String" (552 : Nat) ({ cls := "java/lang/AbstractStringBuilder", name := "getValue", desc := "()[B" } : Jvm.MethodName)) ∈ lw_all := lw_g (lw_at lw_m4 105 rfl) rfl
theorem q893 : (Jvm.Cond.methodLink "java/lang/String" (549 : Nat) ({ cls := "java/lang/AbstractStringBuilder", name := "length", desc := "()I" } : Jvm.MethodName)) ∈ lw_all := lw_g (lw_at lw_m4 110 rfl) rfl
theorem q901 : (Jvm.Cond.methodLink "java/lang/String" (1047 : Nat) ({ cls := "java/lang/AbstractStringBuilder", name := "isLatin1", desc := "()Z" } : Jvm.MethodName)) ∈ lw_all := lw_g (lw_at lw_m4 118 rfl) rfl
theorem q902 : (Jvm.Cond.methodLink "java/lang/String" (54 : Nat) ({ cls := "java/util/Arrays", name := "copyOfRange", desc := "([BII)[B" } : Jvm.MethodName)) ∈ lw_all := lw_g (lw_at lw_m4 119 rfl) rfl
theorem q984 : (Jvm.Cond.methodLink "java/lang/String" (1051 : Nat) ({ cls := "java/lang/StringUTF16", name := "compress", desc := "([BII)[B" } : Jvm.MethodName)) ∈ lw_all := lw_g (lw_at lw_m4 201 rfl) rfl
theorem q994 : (Jvm.Cond.methodLink "java/lang/String" (47 : Nat) ({ cls := "java/lang/StringUTF16", name := "coderFromArrayLen", desc := "([BI)B" } : Jvm.MethodName)) ∈ lw_all := lw_g (lw_at lw_m4 211 rfl) rfl
theorem q997 : (Jvm.Cond.fieldLink "java/lang/String" (9 : Nat) "java/lang/String" "value" "[B") ∈ lw_all := lw_g (lw_at lw_m4 214 rfl) rfl
theorem q998 : (Jvm.Cond.fieldLink "java/lang/String" (15 : Nat) "java/lang/String" "coder" "B") ∈ lw_all := lw_g (lw_at lw_m4 215 rfl) rfl
theorem q999 : (Jvm.Cond.laysFinal "java/lang/String" "java/lang/String" "value" "[B") ∈ lw_all := lw_g (lw_at lw_m4 216 rfl) rfl
theorem q1000 : (Jvm.Cond.soleField "java/lang/String" "value") ∈ lw_all := lw_g (lw_at lw_m4 217 rfl) rfl
theorem q1001 : (Jvm.Cond.laysFinal "java/lang/String" "java/lang/String" "coder" "B") ∈ lw_all := lw_g (lw_at lw_m4 218 rfl) rfl
theorem q1002 : (Jvm.Cond.soleField "java/lang/String" "coder") ∈ lw_all := lw_g (lw_at lw_m4 219 rfl) rfl
theorem q1003 : (Jvm.Cond.lays "java/lang/String" "java/lang/String" "hash" "I") ∈ lw_all := lw_g (lw_at lw_m4 220 rfl) rfl
theorem q1004 : (Jvm.Cond.soleField "java/lang/String" "hash") ∈ lw_all := lw_g (lw_at lw_m4 221 rfl) rfl
theorem q1005 : (Jvm.Cond.lays "java/lang/String" "java/lang/String" "hashIsZero" "Z") ∈ lw_all := lw_g (lw_at lw_m4 222 rfl) rfl
theorem q1006 : (Jvm.Cond.soleField "java/lang/String" "hashIsZero") ∈ lw_all := lw_g (lw_at lw_m4 223 rfl) rfl
theorem q1007 : (Jvm.Cond.superclass "java/lang/String" "java/lang/Object") ∈ lw_all := lw_g (lw_at lw_m4 224 rfl) rfl
theorem q1552 : (Jvm.Cond.selects "java/lang/String" ({ cls := "java/lang/Object", name := "equals", desc := "(Ljava/lang/Object;)Z" } : Jvm.MethodName) ({ cls := "java/lang/String", name := "equals", desc := "(Ljava/lang/Object;)Z" } : Jvm.MethodName)) ∈ lw_all := lw_g (lw_at lw_m7 49 rfl) rfl
theorem q1553 : (Jvm.Cond.instanceMethod ({ cls := "java/lang/String", name := "equals", desc := "(Ljava/lang/Object;)Z" } : Jvm.MethodName)) ∈ lw_all := lw_g (lw_at lw_m7 50 rfl) rfl
theorem q1554 : (Jvm.Cond.code ({ cls := "java/lang/String", name := "equals", desc := "(Ljava/lang/Object;)Z" } : Jvm.MethodName) prog_35_method_66_code (3 : Nat) (Option.some Jvm.ClassFile.FieldType.boolean)) ∈ lw_all := lw_g (lw_at lw_m7 51 rfl) rfl
theorem q1555 : (Jvm.Cond.classLink "java/lang/String" (10 : Nat) "java/lang/String") ∈ lw_all := lw_g (lw_at lw_m7 52 rfl) rfl
theorem q1556 : (Jvm.Cond.methodLink "java/lang/String" (541 : Nat) ({ cls := "java/lang/StringLatin1", name := "equals", desc := "([B[B)Z" } : Jvm.MethodName)) ∈ lw_all := lw_g (lw_at lw_m7 53 rfl) rfl
theorem q2059 : (Jvm.Cond.selects "java/lang/String" ({ cls := "java/lang/String", name := "equals", desc := "(Ljava/lang/Object;)Z" } : Jvm.MethodName) ({ cls := "java/lang/String", name := "equals", desc := "(Ljava/lang/Object;)Z" } : Jvm.MethodName)) ∈ lw_all := lw_g (lw_at lw_m9 76 rfl) rfl
theorem q2085 : (Jvm.Cond.castable "java/lang/String" "java/lang/Object") ∈ lw_tbl := lw_at lw_m9 102 rfl
theorem in_J9 : ∀ w ∈ wsJ90, w ∈ lw_all := lw_in wsJ90 [999, 1001, 1003, 1005] (by decide +kernel) (by decide +kernel)
/-! java/lang/StringLatin1 -/
set_option maxRecDepth 100000
def RJ10 : String := "java/lang/StringLatin1"
abbrev cJ10_inflate : ByteArray := prog_37_method_50_code
def yJ10_inflate : MethodName := ⟨RJ10, "inflate", "([BI[BII)V"⟩
def dkwJ10_inflate_0 : List UInt8 := [42, 27, 44, 29, 21, 4, 184, 0, 240, 177]
abbrev dktJ10_inflate_0 : List UInt8 := dkwJ10_inflate_0 ++ []
theorem dksJ10_inflate_0 : cJ10_inflate.data.toList.drop 0 = dktJ10_inflate_0 := by decide +kernel
theorem dJ10_inflate_0 : decode cJ10_inflate 0 = .ok (.aload_n 0, 1) := dk_42 (dk_at dksJ10_inflate_0 0 rfl rfl)
theorem dJ10_inflate_1 : decode cJ10_inflate 1 = .ok (.iload_n 1, 1) := dk_27 (dk_at dksJ10_inflate_0 1 rfl rfl)
theorem dJ10_inflate_2 : decode cJ10_inflate 2 = .ok (.aload_n 2, 1) := dk_44 (dk_at dksJ10_inflate_0 2 rfl rfl)
theorem dJ10_inflate_3 : decode cJ10_inflate 3 = .ok (.iload_n 3, 1) := dk_29 (dk_at dksJ10_inflate_0 3 rfl rfl)
theorem dJ10_inflate_4 : decode cJ10_inflate 4 = .ok (.iload 4, 2) := dk_21 4 (dk_at dksJ10_inflate_0 4 rfl rfl)
theorem dJ10_inflate_6 : decode cJ10_inflate 6 = .ok (.invokestatic 240, 3) := dk_184 0 240 (dk_at dksJ10_inflate_0 6 rfl rfl)
theorem dJ10_inflate_9 : decode cJ10_inflate 9 = .ok (.return_, 1) := dk_177 (dk_at dksJ10_inflate_0 9 rfl rfl)
abbrev cJ10_equals : ByteArray := prog_37_method_13_code
def yJ10_equals : MethodName := ⟨RJ10, "equals", "([B[B)Z"⟩
def dkwJ10_equals_1 : List UInt8 := [3, 172, 132, 2, 1, 167, 255, 236, 4, 172, 3, 172]
abbrev dktJ10_equals_1 : List UInt8 := dkwJ10_equals_1 ++ []
def dkwJ10_equals_0 : List UInt8 := [42, 190, 43, 190, 160, 0, 30, 3, 61, 28, 42, 190, 162, 0, 20, 42, 28, 51, 43, 28, 51, 159, 0, 5]
abbrev dktJ10_equals_0 : List UInt8 := dkwJ10_equals_0 ++ dktJ10_equals_1
theorem dksJ10_equals_0 : cJ10_equals.data.toList.drop 0 = dktJ10_equals_0 := by decide +kernel
theorem dksJ10_equals_1 : cJ10_equals.data.toList.drop 24 = dktJ10_equals_1 := dk_seg dksJ10_equals_0 24 rfl rfl
theorem dJ10_equals_0 : decode cJ10_equals 0 = .ok (.aload_n 0, 1) := dk_42 (dk_at dksJ10_equals_0 0 rfl rfl)
theorem dJ10_equals_1 : decode cJ10_equals 1 = .ok (.arraylength, 1) := dk_190 (dk_at dksJ10_equals_0 1 rfl rfl)
theorem dJ10_equals_2 : decode cJ10_equals 2 = .ok (.aload_n 1, 1) := dk_43 (dk_at dksJ10_equals_0 2 rfl rfl)
theorem dJ10_equals_3 : decode cJ10_equals 3 = .ok (.arraylength, 1) := dk_190 (dk_at dksJ10_equals_0 3 rfl rfl)
theorem dJ10_equals_4 : decode cJ10_equals 4 = .ok (.if_icmp .ne 30, 3) := dk_160 0 30 (dk_at dksJ10_equals_0 4 rfl rfl)
theorem dJ10_equals_7 : decode cJ10_equals 7 = .ok (.iconst 0, 1) := dk_3 (dk_at dksJ10_equals_0 7 rfl rfl)
theorem dJ10_equals_8 : decode cJ10_equals 8 = .ok (.istore_n 2, 1) := dk_61 (dk_at dksJ10_equals_0 8 rfl rfl)
theorem dJ10_equals_9 : decode cJ10_equals 9 = .ok (.iload_n 2, 1) := dk_28 (dk_at dksJ10_equals_0 9 rfl rfl)
theorem dJ10_equals_10 : decode cJ10_equals 10 = .ok (.aload_n 0, 1) := dk_42 (dk_at dksJ10_equals_0 10 rfl rfl)
theorem dJ10_equals_11 : decode cJ10_equals 11 = .ok (.arraylength, 1) := dk_190 (dk_at dksJ10_equals_0 11 rfl rfl)
theorem dJ10_equals_12 : decode cJ10_equals 12 = .ok (.if_icmp .ge 20, 3) := dk_162 0 20 (dk_at dksJ10_equals_0 12 rfl rfl)
theorem dJ10_equals_15 : decode cJ10_equals 15 = .ok (.aload_n 0, 1) := dk_42 (dk_at dksJ10_equals_0 15 rfl rfl)
theorem dJ10_equals_16 : decode cJ10_equals 16 = .ok (.iload_n 2, 1) := dk_28 (dk_at dksJ10_equals_0 16 rfl rfl)
theorem dJ10_equals_17 : decode cJ10_equals 17 = .ok (.baload, 1) := dk_51 (dk_at dksJ10_equals_0 17 rfl rfl)
theorem dJ10_equals_18 : decode cJ10_equals 18 = .ok (.aload_n 1, 1) := dk_43 (dk_at dksJ10_equals_0 18 rfl rfl)
theorem dJ10_equals_19 : decode cJ10_equals 19 = .ok (.iload_n 2, 1) := dk_28 (dk_at dksJ10_equals_0 19 rfl rfl)
theorem dJ10_equals_20 : decode cJ10_equals 20 = .ok (.baload, 1) := dk_51 (dk_at dksJ10_equals_0 20 rfl rfl)
theorem dJ10_equals_21 : decode cJ10_equals 21 = .ok (.if_icmp .eq 5, 3) := dk_159 0 5 (dk_at dksJ10_equals_0 21 rfl rfl)
theorem dJ10_equals_24 : decode cJ10_equals 24 = .ok (.iconst 0, 1) := dk_3 (dk_at dksJ10_equals_1 0 rfl rfl)
theorem dJ10_equals_25 : decode cJ10_equals 25 = .ok (.ireturn, 1) := dk_172 (dk_at dksJ10_equals_1 1 rfl rfl)
theorem dJ10_equals_26 : decode cJ10_equals 26 = .ok (.iinc 2 1, 3) := dk_132 2 1 (dk_at dksJ10_equals_1 2 rfl rfl)
theorem dJ10_equals_29 : decode cJ10_equals 29 = .ok (.goto (-20), 3) := dk_167 255 236 (dk_at dksJ10_equals_1 5 rfl rfl)
theorem dJ10_equals_32 : decode cJ10_equals 32 = .ok (.iconst 1, 1) := dk_4 (dk_at dksJ10_equals_1 8 rfl rfl)
theorem dJ10_equals_33 : decode cJ10_equals 33 = .ok (.ireturn, 1) := dk_172 (dk_at dksJ10_equals_1 9 rfl rfl)
theorem dJ10_equals_34 : decode cJ10_equals 34 = .ok (.iconst 0, 1) := dk_3 (dk_at dksJ10_equals_1 10 rfl rfl)
theorem dJ10_equals_35 : decode cJ10_equals 35 = .ok (.ireturn, 1) := dk_172 (dk_at dksJ10_equals_1 11 rfl rfl)
theorem q85 : (Jvm.Cond.initialized "java/lang/StringLatin1") ∈ lw_all := lw_g (lw_at lw_m1 22 rfl) rfl
theorem q829 : (Jvm.Cond.static ({ cls := "java/lang/StringLatin1", name := "inflate", desc := "([BI[BII)V" } : Jvm.MethodName)) ∈ lw_all := lw_g (lw_at lw_m4 46 rfl) rfl
theorem q830 : (Jvm.Cond.code ({ cls := "java/lang/StringLatin1", name := "inflate", desc := "([BI[BII)V" } : Jvm.MethodName) prog_37_method_50_code (5 : Nat) (Option.none : Option Jvm.ClassFile.FieldType)) ∈ lw_all := lw_g (lw_at lw_m4 47 rfl) rfl
theorem q831 : (Jvm.Cond.methodLink "java/lang/StringLatin1" (240 : Nat) ({ cls := "java/lang/StringUTF16", name := "inflate", desc := "([BI[BII)V" } : Jvm.MethodName)) ∈ lw_all := lw_g (lw_at lw_m4 48 rfl) rfl
theorem q1557 : (Jvm.Cond.static ({ cls := "java/lang/StringLatin1", name := "equals", desc := "([B[B)Z" } : Jvm.MethodName)) ∈ lw_all := lw_g (lw_at lw_m7 54 rfl) rfl
theorem q1558 : (Jvm.Cond.code ({ cls := "java/lang/StringLatin1", name := "equals", desc := "([B[B)Z" } : Jvm.MethodName) prog_37_method_13_code (3 : Nat) (Option.some Jvm.ClassFile.FieldType.boolean)) ∈ lw_all := lw_g (lw_at lw_m7 55 rfl) rfl
/-! java/lang/Throwable -/
set_option maxRecDepth 100000
def RJ11 : String := "java/lang/Throwable"
def TJ11 : u_T := fun k => match k with
  | 0 => ("java/lang/Throwable", "cause", "Ljava/lang/Throwable;", false)
  | 1 => ("java/lang/Throwable", "stackTrace", "[Ljava/lang/StackTraceElement;", false)
  | 2 => ("java/lang/Throwable", "suppressedExceptions", "Ljava/util/List;", false)
  | 3 => ("java/lang/Throwable", "detailMessage", "Ljava/lang/String;", false)
  | _ => ("java/lang/Throwable", "backtrace", "Ljava/lang/Object;", false)
def tyJ11 : Nat → FieldType := fun k => match k with
  | 0 => .object "java/lang/Throwable"
  | 1 => .array (.object "java/lang/StackTraceElement")
  | 2 => .object "java/util/List"
  | 3 => .object "java/lang/String"
  | _ => .object "java/lang/Object"
abbrev wsJ110 : List Cond := u_ws RJ11 TJ11 5
theorem nmJ11 : ∀ a, a < 5 → ∀ b, b < 5 → a ≠ b → (TJ11 a).2.1 ≠ (TJ11 b).2.1 := by decide +kernel
theorem tyJ11_ok : ∀ k, k < 5 → parseFieldDescriptor (TJ11 k).2.2.1 = some (tyJ11 k) := by decide +kernel
abbrev cJ11_init : ByteArray := prog_40_method_1_code
def yJ11_init : MethodName := ⟨RJ11, "<init>", "()V"⟩
def dkwJ11_init_1 : List UInt8 := [182, 0, 27, 87, 177]
abbrev dktJ11_init_1 : List UInt8 := dkwJ11_init_1 ++ []
def dkwJ11_init_0 : List UInt8 := [42, 183, 0, 1, 42, 42, 181, 0, 7, 42, 178, 0, 13, 181, 0, 17, 42, 178, 0, 20, 181, 0, 24, 42]
abbrev dktJ11_init_0 : List UInt8 := dkwJ11_init_0 ++ dktJ11_init_1
theorem dksJ11_init_0 : cJ11_init.data.toList.drop 0 = dktJ11_init_0 := by decide +kernel
theorem dksJ11_init_1 : cJ11_init.data.toList.drop 24 = dktJ11_init_1 := dk_seg dksJ11_init_0 24 rfl rfl
theorem dJ11_init_0 : decode cJ11_init 0 = .ok (.aload_n 0, 1) := dk_42 (dk_at dksJ11_init_0 0 rfl rfl)
theorem dJ11_init_1 : decode cJ11_init 1 = .ok (.invokespecial 1, 3) := dk_183 0 1 (dk_at dksJ11_init_0 1 rfl rfl)
theorem dJ11_init_4 : decode cJ11_init 4 = .ok (.aload_n 0, 1) := dk_42 (dk_at dksJ11_init_0 4 rfl rfl)
theorem dJ11_init_5 : decode cJ11_init 5 = .ok (.aload_n 0, 1) := dk_42 (dk_at dksJ11_init_0 5 rfl rfl)
theorem dJ11_init_6 : decode cJ11_init 6 = .ok (.putfield 7, 3) := dk_181 0 7 (dk_at dksJ11_init_0 6 rfl rfl)
theorem dJ11_init_9 : decode cJ11_init 9 = .ok (.aload_n 0, 1) := dk_42 (dk_at dksJ11_init_0 9 rfl rfl)
theorem dJ11_init_10 : decode cJ11_init 10 = .ok (.getstatic 13, 3) := dk_178 0 13 (dk_at dksJ11_init_0 10 rfl rfl)
theorem dJ11_init_13 : decode cJ11_init 13 = .ok (.putfield 17, 3) := dk_181 0 17 (dk_at dksJ11_init_0 13 rfl rfl)
theorem dJ11_init_16 : decode cJ11_init 16 = .ok (.aload_n 0, 1) := dk_42 (dk_at dksJ11_init_0 16 rfl rfl)
theorem dJ11_init_17 : decode cJ11_init 17 = .ok (.getstatic 20, 3) := dk_178 0 20 (dk_at dksJ11_init_0 17 rfl rfl)
theorem dJ11_init_20 : decode cJ11_init 20 = .ok (.putfield 24, 3) := dk_181 0 24 (dk_at dksJ11_init_0 20 rfl rfl)
theorem dJ11_init_23 : decode cJ11_init 23 = .ok (.aload_n 0, 1) := dk_42 (dk_at dksJ11_init_0 23 rfl rfl)
theorem dJ11_init_24 : decode cJ11_init 24 = .ok (.invokevirtual 27, 3) := dk_182 0 27 (dk_at dksJ11_init_1 0 rfl rfl)
theorem dJ11_init_27 : decode cJ11_init 27 = .ok (.pop, 1) := dk_87 (dk_at dksJ11_init_1 3 rfl rfl)
theorem dJ11_init_28 : decode cJ11_init 28 = .ok (.return_, 1) := dk_177 (dk_at dksJ11_init_1 4 rfl rfl)
abbrev cJ11_init_2 : ByteArray := prog_40_method_2_code
def yJ11_init_2 : MethodName := ⟨RJ11, "<init>", "(Ljava/lang/String;)V"⟩
def dkwJ11_init_2_1 : List UInt8 := [182, 0, 27, 87, 42, 43, 181, 0, 31, 177]
abbrev dktJ11_init_2_1 : List UInt8 := dkwJ11_init_2_1 ++ []
def dkwJ11_init_2_0 : List UInt8 := [42, 183, 0, 1, 42, 42, 181, 0, 7, 42, 178, 0, 13, 181, 0, 17, 42, 178, 0, 20, 181, 0, 24, 42]
abbrev dktJ11_init_2_0 : List UInt8 := dkwJ11_init_2_0 ++ dktJ11_init_2_1
theorem dksJ11_init_2_0 : cJ11_init_2.data.toList.drop 0 = dktJ11_init_2_0 := by decide +kernel
theorem dksJ11_init_2_1 : cJ11_init_2.data.toList.drop 24 = dktJ11_init_2_1 := dk_seg dksJ11_init_2_0 24 rfl rfl
theorem dJ11_init_2_0 : decode cJ11_init_2 0 = .ok (.aload_n 0, 1) := dk_42 (dk_at dksJ11_init_2_0 0 rfl rfl)
theorem dJ11_init_2_1 : decode cJ11_init_2 1 = .ok (.invokespecial 1, 3) := dk_183 0 1 (dk_at dksJ11_init_2_0 1 rfl rfl)
theorem dJ11_init_2_4 : decode cJ11_init_2 4 = .ok (.aload_n 0, 1) := dk_42 (dk_at dksJ11_init_2_0 4 rfl rfl)
theorem dJ11_init_2_5 : decode cJ11_init_2 5 = .ok (.aload_n 0, 1) := dk_42 (dk_at dksJ11_init_2_0 5 rfl rfl)
theorem dJ11_init_2_6 : decode cJ11_init_2 6 = .ok (.putfield 7, 3) := dk_181 0 7 (dk_at dksJ11_init_2_0 6 rfl rfl)
theorem dJ11_init_2_9 : decode cJ11_init_2 9 = .ok (.aload_n 0, 1) := dk_42 (dk_at dksJ11_init_2_0 9 rfl rfl)
theorem dJ11_init_2_10 : decode cJ11_init_2 10 = .ok (.getstatic 13, 3) := dk_178 0 13 (dk_at dksJ11_init_2_0 10 rfl rfl)
theorem dJ11_init_2_13 : decode cJ11_init_2 13 = .ok (.putfield 17, 3) := dk_181 0 17 (dk_at dksJ11_init_2_0 13 rfl rfl)
theorem dJ11_init_2_16 : decode cJ11_init_2 16 = .ok (.aload_n 0, 1) := dk_42 (dk_at dksJ11_init_2_0 16 rfl rfl)
theorem dJ11_init_2_17 : decode cJ11_init_2 17 = .ok (.getstatic 20, 3) := dk_178 0 20 (dk_at dksJ11_init_2_0 17 rfl rfl)
theorem dJ11_init_2_20 : decode cJ11_init_2 20 = .ok (.putfield 24, 3) := dk_181 0 24 (dk_at dksJ11_init_2_0 20 rfl rfl)
theorem dJ11_init_2_23 : decode cJ11_init_2 23 = .ok (.aload_n 0, 1) := dk_42 (dk_at dksJ11_init_2_0 23 rfl rfl)
theorem dJ11_init_2_24 : decode cJ11_init_2 24 = .ok (.invokevirtual 27, 3) := dk_182 0 27 (dk_at dksJ11_init_2_1 0 rfl rfl)
theorem dJ11_init_2_27 : decode cJ11_init_2 27 = .ok (.pop, 1) := dk_87 (dk_at dksJ11_init_2_1 3 rfl rfl)
theorem dJ11_init_2_28 : decode cJ11_init_2 28 = .ok (.aload_n 0, 1) := dk_42 (dk_at dksJ11_init_2_1 4 rfl rfl)
theorem dJ11_init_2_29 : decode cJ11_init_2 29 = .ok (.aload_n 1, 1) := dk_43 (dk_at dksJ11_init_2_1 5 rfl rfl)
theorem dJ11_init_2_30 : decode cJ11_init_2 30 = .ok (.putfield 31, 3) := dk_181 0 31 (dk_at dksJ11_init_2_1 6 rfl rfl)
theorem dJ11_init_2_33 : decode cJ11_init_2 33 = .ok (.return_, 1) := dk_177 (dk_at dksJ11_init_2_1 9 rfl rfl)
theorem q87 : (Jvm.Cond.initialized "java/lang/Throwable") ∈ lw_all := lw_g (lw_at lw_m1 24 rfl) rfl
theorem q918 : (Jvm.Cond.declares ({ cls := "java/lang/Throwable", name := "<init>", desc := "()V" } : Jvm.MethodName)) ∈ lw_tbl := lw_at lw_m4 135 rfl
theorem q919 : (Jvm.Cond.declares ({ cls := "java/lang/Throwable", name := "<init>", desc := "(Ljava/lang/String;)V" } : Jvm.MethodName)) ∈ lw_tbl := lw_at lw_m4 136 rfl
theorem q923 : (Jvm.Cond.lays "java/lang/Throwable" "java/lang/Throwable" "cause" "Ljava/lang/Throwable;") ∈ lw_all := lw_g (lw_at lw_m4 140 rfl) rfl
theorem q925 : (Jvm.Cond.lays "java/lang/Throwable" "java/lang/Throwable" "stackTrace" "[Ljava/lang/StackTraceElement;") ∈ lw_all := lw_g (lw_at lw_m4 142 rfl) rfl
theorem q927 : (Jvm.Cond.lays "java/lang/Throwable" "java/lang/Throwable" "suppressedExceptions" "Ljava/util/List;") ∈ lw_all := lw_g (lw_at lw_m4 144 rfl) rfl
theorem q929 : (Jvm.Cond.lays "java/lang/Throwable" "java/lang/Throwable" "detailMessage" "Ljava/lang/String;") ∈ lw_all := lw_g (lw_at lw_m4 146 rfl) rfl
theorem q931 : (Jvm.Cond.lays "java/lang/Throwable" "java/lang/Throwable" "backtrace" "Ljava/lang/Object;") ∈ lw_all := lw_g (lw_at lw_m4 148 rfl) rfl
theorem q932 : (Jvm.Cond.fieldLink "java/lang/Throwable" (198 : Nat) "java/lang/Throwable" "backtrace" "Ljava/lang/Object;") ∈ lw_all := lw_g (lw_at lw_m4 149 rfl) rfl
theorem q933 : (Jvm.Cond.superclass "java/lang/Throwable" "java/lang/Object") ∈ lw_all := lw_g (lw_at lw_m4 150 rfl) rfl
theorem q934 : (Jvm.Cond.instanceMethod ({ cls := "java/lang/Throwable", name := "<init>", desc := "()V" } : Jvm.MethodName)) ∈ lw_all := lw_g (lw_at lw_m4 151 rfl) rfl
theorem q935 : (Jvm.Cond.code ({ cls := "java/lang/Throwable", name := "<init>", desc := "()V" } : Jvm.MethodName) prog_40_method_1_code (1 : Nat) (Option.none : Option Jvm.ClassFile.FieldType)) ∈ lw_all := lw_g (lw_at lw_m4 152 rfl) rfl
theorem q936 : (Jvm.Cond.methodLink "java/lang/Throwable" (1 : Nat) ({ cls := "java/lang/Object", name := "<init>", desc := "()V" } : Jvm.MethodName)) ∈ lw_all := lw_g (lw_at lw_m4 153 rfl) rfl
theorem q937 : (Jvm.Cond.fieldLink "java/lang/Throwable" (13 : Nat) "java/lang/Throwable" "UNASSIGNED_STACK" "[Ljava/lang/StackTraceElement;") ∈ lw_all := lw_g (lw_at lw_m4 154 rfl) rfl
theorem q938 : (Jvm.Cond.laysStatic "java/lang/Throwable" "UNASSIGNED_STACK" "[Ljava/lang/StackTraceElement;") ∈ lw_tbl := lw_at lw_m4 155 rfl
theorem q939 : (Jvm.Cond.fieldLink "java/lang/Throwable" (20 : Nat) "java/lang/Throwable" "SUPPRESSED_SENTINEL" "Ljava/util/List;") ∈ lw_all := lw_g (lw_at lw_m4 156 rfl) rfl
theorem q940 : (Jvm.Cond.laysStatic "java/lang/Throwable" "SUPPRESSED_SENTINEL" "Ljava/util/List;") ∈ lw_tbl := lw_at lw_m4 157 rfl
theorem q941 : (Jvm.Cond.methodLink "java/lang/Throwable" (27 : Nat) ({ cls := "java/lang/Throwable", name := "fillInStackTrace", desc := "()Ljava/lang/Throwable;" } : Jvm.MethodName)) ∈ lw_all := lw_g (lw_at lw_m4 158 rfl) rfl
theorem q942 : (Jvm.Cond.instanceMethod ({ cls := "java/lang/Throwable", name := "fillInStackTrace", desc := "()Ljava/lang/Throwable;" } : Jvm.MethodName)) ∈ lw_all := lw_g (lw_at lw_m4 159 rfl) rfl
theorem q943 : (Jvm.Cond.sameMethod "java/lang/Throwable" "java/lang/Throwable" "fillInStackTrace" "()Ljava/lang/Throwable;") ∈ lw_all := lw_g (lw_at lw_m4 160 rfl) rfl
theorem q947 : (Jvm.Cond.codeSync ({ cls := "java/lang/Throwable", name := "fillInStackTrace", desc := "()Ljava/lang/Throwable;" } : Jvm.MethodName) prog_40_method_18_code (1 : Nat) (Option.some (Jvm.ClassFile.FieldType.object "java/lang/Throwable"))) ∈ lw_all := lw_g (lw_at lw_m4 164 rfl) rfl
theorem q948 : (Jvm.Cond.methodLink "java/lang/Throwable" (202 : Nat) ({ cls := "java/lang/Throwable", name := "fillInStackTrace", desc := "(I)Ljava/lang/Throwable;" } : Jvm.MethodName)) ∈ lw_all := lw_g (lw_at lw_m4 165 rfl) rfl
theorem q949 : (Jvm.Cond.privateMethod ({ cls := "java/lang/Throwable", name := "fillInStackTrace", desc := "(I)Ljava/lang/Throwable;" } : Jvm.MethodName)) ∈ lw_tbl := lw_at lw_m4 166 rfl
theorem q950 : (Jvm.Cond.instanceMethod ({ cls := "java/lang/Throwable", name := "fillInStackTrace", desc := "(I)Ljava/lang/Throwable;" } : Jvm.MethodName)) ∈ lw_all := lw_g (lw_at lw_m4 167 rfl) rfl
theorem q951 : (Jvm.Cond.instantiable "java/lang/Throwable" (6 : Nat)) ∈ lw_all := lw_g (lw_at lw_m4 168 rfl) rfl
theorem q952 : (Jvm.Cond.native ({ cls := "java/lang/Throwable", name := "fillInStackTrace", desc := "(I)Ljava/lang/Throwable;" } : Jvm.MethodName)) ∈ lw_all := lw_g (lw_at lw_m4 169 rfl) rfl
theorem q969 : (Jvm.Cond.instanceMethod ({ cls := "java/lang/Throwable", name := "<init>", desc := "(Ljava/lang/String;)V" } : Jvm.MethodName)) ∈ lw_all := lw_g (lw_at lw_m4 186 rfl) rfl
theorem q970 : (Jvm.Cond.code ({ cls := "java/lang/Throwable", name := "<init>", desc := "(Ljava/lang/String;)V" } : Jvm.MethodName) prog_40_method_2_code (2 : Nat) (Option.none : Option Jvm.ClassFile.FieldType)) ∈ lw_all := lw_g (lw_at lw_m4 187 rfl) rfl
theorem q971 : (Jvm.Cond.fieldLink "java/lang/Throwable" (198 : Nat) "java/lang/Throwable" "backtrace" "Ljava/lang/Object;") ∈ lw_all := lw_g (lw_at lw_m4 188 rfl) rfl
theorem q972 : (Jvm.Cond.fieldLink "java/lang/Throwable" (31 : Nat) "java/lang/Throwable" "detailMessage" "Ljava/lang/String;") ∈ lw_all := lw_g (lw_at lw_m4 189 rfl) rfl
theorem q973 : (Jvm.Cond.fieldLink "java/lang/Throwable" (7 : Nat) "java/lang/Throwable" "cause" "Ljava/lang/Throwable;") ∈ lw_all := lw_g (lw_at lw_m4 190 rfl) rfl
theorem q974 : (Jvm.Cond.fieldLink "java/lang/Throwable" (17 : Nat) "java/lang/Throwable" "stackTrace" "[Ljava/lang/StackTraceElement;") ∈ lw_all := lw_g (lw_at lw_m4 191 rfl) rfl
theorem q975 : (Jvm.Cond.fieldLink "java/lang/Throwable" (24 : Nat) "java/lang/Throwable" "suppressedExceptions" "Ljava/util/List;") ∈ lw_all := lw_g (lw_at lw_m4 192 rfl) rfl
theorem q976 : (Jvm.Cond.soleField "java/lang/Throwable" "backtrace") ∈ lw_all := lw_g (lw_at lw_m4 193 rfl) rfl
theorem q977 : (Jvm.Cond.soleField "java/lang/Throwable" "detailMessage") ∈ lw_all := lw_g (lw_at lw_m4 194 rfl) rfl
theorem q978 : (Jvm.Cond.soleField "java/lang/Throwable" "cause") ∈ lw_all := lw_g (lw_at lw_m4 195 rfl) rfl
theorem q979 : (Jvm.Cond.soleField "java/lang/Throwable" "stackTrace") ∈ lw_all := lw_g (lw_at lw_m4 196 rfl) rfl
theorem q981 : (Jvm.Cond.soleField "java/lang/Throwable" "depth") ∈ lw_all := lw_g (lw_at lw_m4 198 rfl) rfl
theorem q982 : (Jvm.Cond.soleField "java/lang/Throwable" "suppressedExceptions") ∈ lw_all := lw_g (lw_at lw_m4 199 rfl) rfl
theorem q2058 : (Jvm.Cond.sameMethod "java/lang/Throwable" "java/lang/Throwable" "fillInStackTrace" "(I)Ljava/lang/Throwable;") ∈ lw_all := lw_g (lw_at lw_m9 75 rfl) rfl
theorem q2086 : (Jvm.Cond.castable "java/lang/Throwable" "java/lang/Object") ∈ lw_tbl := lw_at lw_m9 103 rfl
theorem in_J11 : ∀ w ∈ wsJ110, w ∈ lw_all := lw_in wsJ110 [923, 925, 927, 929, 931] (by decide +kernel) (by decide +kernel)
/-! java/lang/Exception -/
set_option maxRecDepth 100000
def RJ12 : String := "java/lang/Exception"
abbrev cJ12_init : ByteArray := prog_25_method_2_code
def yJ12_init : MethodName := ⟨RJ12, "<init>", "(Ljava/lang/String;)V"⟩
def dkwJ12_init_0 : List UInt8 := [42, 43, 183, 0, 7, 177]
abbrev dktJ12_init_0 : List UInt8 := dkwJ12_init_0 ++ []
theorem dksJ12_init_0 : cJ12_init.data.toList.drop 0 = dktJ12_init_0 := by decide +kernel
theorem dJ12_init_0 : decode cJ12_init 0 = .ok (.aload_n 0, 1) := dk_42 (dk_at dksJ12_init_0 0 rfl rfl)
theorem dJ12_init_1 : decode cJ12_init 1 = .ok (.aload_n 1, 1) := dk_43 (dk_at dksJ12_init_0 1 rfl rfl)
theorem dJ12_init_2 : decode cJ12_init 2 = .ok (.invokespecial 7, 3) := dk_183 0 7 (dk_at dksJ12_init_0 2 rfl rfl)
theorem dJ12_init_5 : decode cJ12_init 5 = .ok (.return_, 1) := dk_177 (dk_at dksJ12_init_0 5 rfl rfl)
abbrev cJ12_init_2 : ByteArray := prog_25_method_1_code
def yJ12_init_2 : MethodName := ⟨RJ12, "<init>", "()V"⟩
theorem dJ12_init_2_0 : decode cJ12_init_2 0 = .ok (.aload_n 0, 1) := by decide +kernel
theorem dJ12_init_2_1 : decode cJ12_init_2 1 = .ok (.invokespecial 1, 3) := by decide +kernel
theorem dJ12_init_2_4 : decode cJ12_init_2 4 = .ok (.return_, 1) := by decide +kernel
theorem q88 : (Jvm.Cond.initialized "java/lang/Exception") ∈ lw_all := lw_g (lw_at lw_m1 25 rfl) rfl
theorem q916 : (Jvm.Cond.declares ({ cls := "java/lang/Exception", name := "<init>", desc := "()V" } : Jvm.MethodName)) ∈ lw_tbl := lw_at lw_m4 133 rfl
theorem q917 : (Jvm.Cond.declares ({ cls := "java/lang/Exception", name := "<init>", desc := "(Ljava/lang/String;)V" } : Jvm.MethodName)) ∈ lw_tbl := lw_at lw_m4 134 rfl
theorem q966 : (Jvm.Cond.instanceMethod ({ cls := "java/lang/Exception", name := "<init>", desc := "(Ljava/lang/String;)V" } : Jvm.MethodName)) ∈ lw_all := lw_g (lw_at lw_m4 183 rfl) rfl
theorem q967 : (Jvm.Cond.code ({ cls := "java/lang/Exception", name := "<init>", desc := "(Ljava/lang/String;)V" } : Jvm.MethodName) prog_25_method_2_code (2 : Nat) (Option.none : Option Jvm.ClassFile.FieldType)) ∈ lw_all := lw_g (lw_at lw_m4 184 rfl) rfl
theorem q968 : (Jvm.Cond.methodLink "java/lang/Exception" (7 : Nat) ({ cls := "java/lang/Throwable", name := "<init>", desc := "(Ljava/lang/String;)V" } : Jvm.MethodName)) ∈ lw_all := lw_g (lw_at lw_m4 185 rfl) rfl
theorem q1071 : (Jvm.Cond.instanceMethod ({ cls := "java/lang/Exception", name := "<init>", desc := "()V" } : Jvm.MethodName)) ∈ lw_all := lw_g (lw_at lw_m5 48 rfl) rfl
theorem q1072 : (Jvm.Cond.code ({ cls := "java/lang/Exception", name := "<init>", desc := "()V" } : Jvm.MethodName) prog_25_method_1_code (1 : Nat) (Option.none : Option Jvm.ClassFile.FieldType)) ∈ lw_all := lw_g (lw_at lw_m5 49 rfl) rfl
theorem q1073 : (Jvm.Cond.methodLink "java/lang/Exception" (1 : Nat) ({ cls := "java/lang/Throwable", name := "<init>", desc := "()V" } : Jvm.MethodName)) ∈ lw_all := lw_g (lw_at lw_m5 50 rfl) rfl
/-! java/lang/RuntimeException -/
set_option maxRecDepth 100000
def RJ13 : String := "java/lang/RuntimeException"
abbrev cJ13_init : ByteArray := prog_34_method_2_code
def yJ13_init : MethodName := ⟨RJ13, "<init>", "(Ljava/lang/String;)V"⟩
def dkwJ13_init_0 : List UInt8 := [42, 43, 183, 0, 7, 177]
abbrev dktJ13_init_0 : List UInt8 := dkwJ13_init_0 ++ []
theorem dksJ13_init_0 : cJ13_init.data.toList.drop 0 = dktJ13_init_0 := by decide +kernel
theorem dJ13_init_0 : decode cJ13_init 0 = .ok (.aload_n 0, 1) := dk_42 (dk_at dksJ13_init_0 0 rfl rfl)
theorem dJ13_init_1 : decode cJ13_init 1 = .ok (.aload_n 1, 1) := dk_43 (dk_at dksJ13_init_0 1 rfl rfl)
theorem dJ13_init_2 : decode cJ13_init 2 = .ok (.invokespecial 7, 3) := dk_183 0 7 (dk_at dksJ13_init_0 2 rfl rfl)
theorem dJ13_init_5 : decode cJ13_init 5 = .ok (.return_, 1) := dk_177 (dk_at dksJ13_init_0 5 rfl rfl)
abbrev cJ13_init_2 : ByteArray := prog_34_method_1_code
def yJ13_init_2 : MethodName := ⟨RJ13, "<init>", "()V"⟩
theorem dJ13_init_2_0 : decode cJ13_init_2 0 = .ok (.aload_n 0, 1) := by decide +kernel
theorem dJ13_init_2_1 : decode cJ13_init_2 1 = .ok (.invokespecial 1, 3) := by decide +kernel
theorem dJ13_init_2_4 : decode cJ13_init_2 4 = .ok (.return_, 1) := by decide +kernel
theorem q89 : (Jvm.Cond.initialized "java/lang/RuntimeException") ∈ lw_all := lw_g (lw_at lw_m1 26 rfl) rfl
theorem q914 : (Jvm.Cond.declares ({ cls := "java/lang/RuntimeException", name := "<init>", desc := "()V" } : Jvm.MethodName)) ∈ lw_tbl := lw_at lw_m4 131 rfl
theorem q915 : (Jvm.Cond.declares ({ cls := "java/lang/RuntimeException", name := "<init>", desc := "(Ljava/lang/String;)V" } : Jvm.MethodName)) ∈ lw_tbl := lw_at lw_m4 132 rfl
theorem q963 : (Jvm.Cond.instanceMethod ({ cls := "java/lang/RuntimeException", name := "<init>", desc := "(Ljava/lang/String;)V" } : Jvm.MethodName)) ∈ lw_all := lw_g (lw_at lw_m4 180 rfl) rfl
theorem q964 : (Jvm.Cond.code ({ cls := "java/lang/RuntimeException", name := "<init>", desc := "(Ljava/lang/String;)V" } : Jvm.MethodName) prog_34_method_2_code (2 : Nat) (Option.none : Option Jvm.ClassFile.FieldType)) ∈ lw_all := lw_g (lw_at lw_m4 181 rfl) rfl
theorem q965 : (Jvm.Cond.methodLink "java/lang/RuntimeException" (7 : Nat) ({ cls := "java/lang/Exception", name := "<init>", desc := "(Ljava/lang/String;)V" } : Jvm.MethodName)) ∈ lw_all := lw_g (lw_at lw_m4 182 rfl) rfl
theorem q1068 : (Jvm.Cond.instanceMethod ({ cls := "java/lang/RuntimeException", name := "<init>", desc := "()V" } : Jvm.MethodName)) ∈ lw_all := lw_g (lw_at lw_m5 45 rfl) rfl
theorem q1069 : (Jvm.Cond.code ({ cls := "java/lang/RuntimeException", name := "<init>", desc := "()V" } : Jvm.MethodName) prog_34_method_1_code (1 : Nat) (Option.none : Option Jvm.ClassFile.FieldType)) ∈ lw_all := lw_g (lw_at lw_m5 46 rfl) rfl
theorem q1070 : (Jvm.Cond.methodLink "java/lang/RuntimeException" (1 : Nat) ({ cls := "java/lang/Exception", name := "<init>", desc := "()V" } : Jvm.MethodName)) ∈ lw_all := lw_g (lw_at lw_m5 47 rfl) rfl
/-! java/lang/IllegalArgumentException -/
set_option maxRecDepth 100000
def RJ14 : String := "java/lang/IllegalArgumentException"
def TJ14 : u_T := fun k => match k with
  | 0 => ("java/lang/Throwable", "cause", "Ljava/lang/Throwable;", false)
  | 1 => ("java/lang/Throwable", "stackTrace", "[Ljava/lang/StackTraceElement;", false)
  | 2 => ("java/lang/Throwable", "suppressedExceptions", "Ljava/util/List;", false)
  | 3 => ("java/lang/Throwable", "detailMessage", "Ljava/lang/String;", false)
  | 4 => ("java/lang/Throwable", "backtrace", "Ljava/lang/Object;", false)
  | _ => ("java/lang/Throwable", "depth", "I", false)
def tyJ14 : Nat → FieldType := fun k => match k with
  | 0 => .object "java/lang/Throwable"
  | 1 => .array (.object "java/lang/StackTraceElement")
  | 2 => .object "java/util/List"
  | 3 => .object "java/lang/String"
  | 4 => .object "java/lang/Object"
  | _ => .int
abbrev wsJ140 : List Cond := u_ws RJ14 TJ14 6
theorem nmJ14 : ∀ a, a < 6 → ∀ b, b < 6 → a ≠ b → (TJ14 a).2.1 ≠ (TJ14 b).2.1 := by decide +kernel
theorem tyJ14_ok : ∀ k, k < 6 → parseFieldDescriptor (TJ14 k).2.2.1 = some (tyJ14 k) := by decide +kernel
abbrev cJ14_init : ByteArray := prog_26_method_2_code
def yJ14_init : MethodName := ⟨RJ14, "<init>", "(Ljava/lang/String;)V"⟩
def dkwJ14_init_0 : List UInt8 := [42, 43, 183, 0, 7, 177]
abbrev dktJ14_init_0 : List UInt8 := dkwJ14_init_0 ++ []
theorem dksJ14_init_0 : cJ14_init.data.toList.drop 0 = dktJ14_init_0 := by decide +kernel
theorem dJ14_init_0 : decode cJ14_init 0 = .ok (.aload_n 0, 1) := dk_42 (dk_at dksJ14_init_0 0 rfl rfl)
theorem dJ14_init_1 : decode cJ14_init 1 = .ok (.aload_n 1, 1) := dk_43 (dk_at dksJ14_init_0 1 rfl rfl)
theorem dJ14_init_2 : decode cJ14_init 2 = .ok (.invokespecial 7, 3) := dk_183 0 7 (dk_at dksJ14_init_0 2 rfl rfl)
theorem dJ14_init_5 : decode cJ14_init 5 = .ok (.return_, 1) := dk_177 (dk_at dksJ14_init_0 5 rfl rfl)
abbrev cJ14_init_2 : ByteArray := prog_26_method_1_code
def yJ14_init_2 : MethodName := ⟨RJ14, "<init>", "()V"⟩
theorem dJ14_init_2_0 : decode cJ14_init_2 0 = .ok (.aload_n 0, 1) := by decide +kernel
theorem dJ14_init_2_1 : decode cJ14_init_2 1 = .ok (.invokespecial 1, 3) := by decide +kernel
theorem dJ14_init_2_4 : decode cJ14_init_2 4 = .ok (.return_, 1) := by decide +kernel
theorem q90 : (Jvm.Cond.initialized "java/lang/IllegalArgumentException") ∈ lw_all := lw_g (lw_at lw_m1 27 rfl) rfl
theorem q266 : (Jvm.Cond.selects "java/lang/IllegalArgumentException" ({ cls := "java/lang/Object", name := "getClass", desc := "()Ljava/lang/Class;" } : Jvm.MethodName) ({ cls := "java/lang/Object", name := "getClass", desc := "()Ljava/lang/Class;" } : Jvm.MethodName)) ∈ lw_all := lw_g (lw_at lw_m1 203 rfl) rfl
theorem q912 : (Jvm.Cond.instantiable "java/lang/IllegalArgumentException" (6 : Nat)) ∈ lw_all := lw_g (lw_at lw_m4 129 rfl) rfl
theorem q913 : (Jvm.Cond.castable "java/lang/IllegalArgumentException" "java/lang/IllegalArgumentException") ∈ lw_tbl := lw_at lw_m4 130 rfl
theorem q920 : (Jvm.Cond.selects "java/lang/IllegalArgumentException" ({ cls := "java/lang/Throwable", name := "fillInStackTrace", desc := "(I)Ljava/lang/Throwable;" } : Jvm.MethodName) ({ cls := "java/lang/Throwable", name := "fillInStackTrace", desc := "(I)Ljava/lang/Throwable;" } : Jvm.MethodName)) ∈ lw_all := lw_g (lw_at lw_m4 137 rfl) rfl
theorem q921 : (Jvm.Cond.selects "java/lang/IllegalArgumentException" ({ cls := "java/lang/Throwable", name := "fillInStackTrace", desc := "()Ljava/lang/Throwable;" } : Jvm.MethodName) ({ cls := "java/lang/Throwable", name := "fillInStackTrace", desc := "()Ljava/lang/Throwable;" } : Jvm.MethodName)) ∈ lw_all := lw_g (lw_at lw_m4 138 rfl) rfl
theorem q922 : (Jvm.Cond.lays "java/lang/IllegalArgumentException" "java/lang/Throwable" "cause" "Ljava/lang/Throwable;") ∈ lw_all := lw_g (lw_at lw_m4 139 rfl) rfl
theorem q924 : (Jvm.Cond.lays "java/lang/IllegalArgumentException" "java/lang/Throwable" "stackTrace" "[Ljava/lang/StackTraceElement;") ∈ lw_all := lw_g (lw_at lw_m4 141 rfl) rfl
theorem q926 : (Jvm.Cond.lays "java/lang/IllegalArgumentException" "java/lang/Throwable" "suppressedExceptions" "Ljava/util/List;") ∈ lw_all := lw_g (lw_at lw_m4 143 rfl) rfl
theorem q928 : (Jvm.Cond.lays "java/lang/IllegalArgumentException" "java/lang/Throwable" "detailMessage" "Ljava/lang/String;") ∈ lw_all := lw_g (lw_at lw_m4 145 rfl) rfl
theorem q930 : (Jvm.Cond.lays "java/lang/IllegalArgumentException" "java/lang/Throwable" "backtrace" "Ljava/lang/Object;") ∈ lw_all := lw_g (lw_at lw_m4 147 rfl) rfl
theorem q960 : (Jvm.Cond.instanceMethod ({ cls := "java/lang/IllegalArgumentException", name := "<init>", desc := "(Ljava/lang/String;)V" } : Jvm.MethodName)) ∈ lw_all := lw_g (lw_at lw_m4 177 rfl) rfl
theorem q961 : (Jvm.Cond.code ({ cls := "java/lang/IllegalArgumentException", name := "<init>", desc := "(Ljava/lang/String;)V" } : Jvm.MethodName) prog_26_method_2_code (2 : Nat) (Option.none : Option Jvm.ClassFile.FieldType)) ∈ lw_all := lw_g (lw_at lw_m4 178 rfl) rfl
theorem q962 : (Jvm.Cond.methodLink "java/lang/IllegalArgumentException" (7 : Nat) ({ cls := "java/lang/RuntimeException", name := "<init>", desc := "(Ljava/lang/String;)V" } : Jvm.MethodName)) ∈ lw_all := lw_g (lw_at lw_m4 179 rfl) rfl
theorem q980 : (Jvm.Cond.lays "java/lang/IllegalArgumentException" "java/lang/Throwable" "depth" "I") ∈ lw_all := lw_g (lw_at lw_m4 197 rfl) rfl
theorem q983 : (Jvm.Cond.superclass "java/lang/IllegalArgumentException" "java/lang/RuntimeException") ∈ lw_all := lw_g (lw_at lw_m4 200 rfl) rfl
theorem q1065 : (Jvm.Cond.instanceMethod ({ cls := "java/lang/IllegalArgumentException", name := "<init>", desc := "()V" } : Jvm.MethodName)) ∈ lw_all := lw_g (lw_at lw_m5 42 rfl) rfl
theorem q1066 : (Jvm.Cond.code ({ cls := "java/lang/IllegalArgumentException", name := "<init>", desc := "()V" } : Jvm.MethodName) prog_26_method_1_code (1 : Nat) (Option.none : Option Jvm.ClassFile.FieldType)) ∈ lw_all := lw_g (lw_at lw_m5 43 rfl) rfl
theorem q1067 : (Jvm.Cond.methodLink "java/lang/IllegalArgumentException" (1 : Nat) ({ cls := "java/lang/RuntimeException", name := "<init>", desc := "()V" } : Jvm.MethodName)) ∈ lw_all := lw_g (lw_at lw_m5 44 rfl) rfl
theorem q1542 : (Jvm.Cond.selects "java/lang/IllegalArgumentException" ({ cls := "java/lang/Object", name := "equals", desc := "(Ljava/lang/Object;)Z" } : Jvm.MethodName) ({ cls := "java/lang/Object", name := "equals", desc := "(Ljava/lang/Object;)Z" } : Jvm.MethodName)) ∈ lw_all := lw_g (lw_at lw_m7 39 rfl) rfl
theorem q2075 : (Jvm.Cond.castable "java/lang/IllegalArgumentException" "java/lang/Object") ∈ lw_tbl := lw_at lw_m9 92 rfl
theorem in_J14 : ∀ w ∈ wsJ140, w ∈ lw_all := lw_in wsJ140 [922, 924, 926, 928, 930, 980] (by decide +kernel) (by decide +kernel)
/-! java/util/Objects -/
set_option maxRecDepth 100000
def RJ15 : String := "java/util/Objects"
abbrev cJ15_checkIndex : ByteArray := prog_51_method_17_code
def yJ15_checkIndex : MethodName := ⟨RJ15, "checkIndex", "(II)I"⟩
def dkwJ15_checkIndex_0 : List UInt8 := [26, 27, 1, 184, 0, 105, 172]
abbrev dktJ15_checkIndex_0 : List UInt8 := dkwJ15_checkIndex_0 ++ []
theorem dksJ15_checkIndex_0 : cJ15_checkIndex.data.toList.drop 0 = dktJ15_checkIndex_0 := by decide +kernel
theorem dJ15_checkIndex_0 : decode cJ15_checkIndex 0 = .ok (.iload_n 0, 1) := dk_26 (dk_at dksJ15_checkIndex_0 0 rfl rfl)
theorem dJ15_checkIndex_1 : decode cJ15_checkIndex 1 = .ok (.iload_n 1, 1) := dk_27 (dk_at dksJ15_checkIndex_0 1 rfl rfl)
theorem dJ15_checkIndex_2 : decode cJ15_checkIndex 2 = .ok (.aconst_null, 1) := dk_1 (dk_at dksJ15_checkIndex_0 2 rfl rfl)
theorem dJ15_checkIndex_3 : decode cJ15_checkIndex 3 = .ok (.invokestatic 105, 3) := dk_184 0 105 (dk_at dksJ15_checkIndex_0 3 rfl rfl)
theorem dJ15_checkIndex_6 : decode cJ15_checkIndex 6 = .ok (.ireturn, 1) := dk_172 (dk_at dksJ15_checkIndex_0 6 rfl rfl)
theorem q91 : (Jvm.Cond.initialized "java/util/Objects") ∈ lw_all := lw_g (lw_at lw_m1 28 rfl) rfl
theorem q423 : (Jvm.Cond.static ({ cls := "java/util/Objects", name := "checkIndex", desc := "(II)I" } : Jvm.MethodName)) ∈ lw_all := lw_g (lw_at lw_m2 120 rfl) rfl
theorem q424 : (Jvm.Cond.code ({ cls := "java/util/Objects", name := "checkIndex", desc := "(II)I" } : Jvm.MethodName) prog_51_method_17_code (2 : Nat) (Option.some Jvm.ClassFile.FieldType.int)) ∈ lw_all := lw_g (lw_at lw_m2 121 rfl) rfl
theorem q425 : (Jvm.Cond.methodLink "java/util/Objects" (105 : Nat) ({ cls := "jdk/internal/util/Preconditions", name := "checkIndex", desc := "(IILjava/util/function/BiFunction;)I" } : Jvm.MethodName)) ∈ lw_all := lw_g (lw_at lw_m2 122 rfl) rfl
/-! jdk/internal/util/Preconditions -/
set_option maxRecDepth 100000
def RJ16 : String := "jdk/internal/util/Preconditions"
abbrev cJ16_checkIndex : ByteArray := prog_55_method_11_code
def yJ16_checkIndex : MethodName := ⟨RJ16, "checkIndex", "(IILjava/util/function/BiFunction;)I"⟩
def dkwJ16_checkIndex_0 : List UInt8 := [26, 155, 0, 8, 26, 27, 161, 0, 10, 44, 26, 27, 184, 0, 95, 191, 26, 172]
abbrev dktJ16_checkIndex_0 : List UInt8 := dkwJ16_checkIndex_0 ++ []
theorem dksJ16_checkIndex_0 : cJ16_checkIndex.data.toList.drop 0 = dktJ16_checkIndex_0 := by decide +kernel
theorem dJ16_checkIndex_0 : decode cJ16_checkIndex 0 = .ok (.iload_n 0, 1) := dk_26 (dk_at dksJ16_checkIndex_0 0 rfl rfl)
theorem dJ16_checkIndex_1 : decode cJ16_checkIndex 1 = .ok (.ifCond .lt 8, 3) := dk_155 0 8 (dk_at dksJ16_checkIndex_0 1 rfl rfl)
theorem dJ16_checkIndex_4 : decode cJ16_checkIndex 4 = .ok (.iload_n 0, 1) := dk_26 (dk_at dksJ16_checkIndex_0 4 rfl rfl)
theorem dJ16_checkIndex_5 : decode cJ16_checkIndex 5 = .ok (.iload_n 1, 1) := dk_27 (dk_at dksJ16_checkIndex_0 5 rfl rfl)
theorem dJ16_checkIndex_6 : decode cJ16_checkIndex 6 = .ok (.if_icmp .lt 10, 3) := dk_161 0 10 (dk_at dksJ16_checkIndex_0 6 rfl rfl)
theorem dJ16_checkIndex_9 : decode cJ16_checkIndex 9 = .ok (.aload_n 2, 1) := dk_44 (dk_at dksJ16_checkIndex_0 9 rfl rfl)
theorem dJ16_checkIndex_10 : decode cJ16_checkIndex 10 = .ok (.iload_n 0, 1) := dk_26 (dk_at dksJ16_checkIndex_0 10 rfl rfl)
theorem dJ16_checkIndex_11 : decode cJ16_checkIndex 11 = .ok (.iload_n 1, 1) := dk_27 (dk_at dksJ16_checkIndex_0 11 rfl rfl)
theorem dJ16_checkIndex_12 : decode cJ16_checkIndex 12 = .ok (.invokestatic 95, 3) := dk_184 0 95 (dk_at dksJ16_checkIndex_0 12 rfl rfl)
theorem dJ16_checkIndex_15 : decode cJ16_checkIndex 15 = .ok (.athrow, 1) := dk_191 (dk_at dksJ16_checkIndex_0 15 rfl rfl)
theorem dJ16_checkIndex_16 : decode cJ16_checkIndex 16 = .ok (.iload_n 0, 1) := dk_26 (dk_at dksJ16_checkIndex_0 16 rfl rfl)
theorem dJ16_checkIndex_17 : decode cJ16_checkIndex 17 = .ok (.ireturn, 1) := dk_172 (dk_at dksJ16_checkIndex_0 17 rfl rfl)
abbrev cJ16_checkFromToIndex : ByteArray := prog_55_method_12_code
def yJ16_checkFromToIndex : MethodName := ⟨RJ16, "checkFromToIndex", "(IIILjava/util/function/BiFunction;)I"⟩
def dkwJ16_checkFromToIndex_0 : List UInt8 := [26, 155, 0, 13, 26, 27, 163, 0, 8, 27, 28, 164, 0, 11, 45, 26, 27, 28, 184, 0, 99, 191, 26, 172]
abbrev dktJ16_checkFromToIndex_0 : List UInt8 := dkwJ16_checkFromToIndex_0 ++ []
theorem dksJ16_checkFromToIndex_0 : cJ16_checkFromToIndex.data.toList.drop 0 = dktJ16_checkFromToIndex_0 := by decide +kernel
theorem dJ16_checkFromToIndex_0 : decode cJ16_checkFromToIndex 0 = .ok (.iload_n 0, 1) := dk_26 (dk_at dksJ16_checkFromToIndex_0 0 rfl rfl)
theorem dJ16_checkFromToIndex_1 : decode cJ16_checkFromToIndex 1 = .ok (.ifCond .lt 13, 3) := dk_155 0 13 (dk_at dksJ16_checkFromToIndex_0 1 rfl rfl)
theorem dJ16_checkFromToIndex_4 : decode cJ16_checkFromToIndex 4 = .ok (.iload_n 0, 1) := dk_26 (dk_at dksJ16_checkFromToIndex_0 4 rfl rfl)
theorem dJ16_checkFromToIndex_5 : decode cJ16_checkFromToIndex 5 = .ok (.iload_n 1, 1) := dk_27 (dk_at dksJ16_checkFromToIndex_0 5 rfl rfl)
theorem dJ16_checkFromToIndex_6 : decode cJ16_checkFromToIndex 6 = .ok (.if_icmp .gt 8, 3) := dk_163 0 8 (dk_at dksJ16_checkFromToIndex_0 6 rfl rfl)
theorem dJ16_checkFromToIndex_9 : decode cJ16_checkFromToIndex 9 = .ok (.iload_n 1, 1) := dk_27 (dk_at dksJ16_checkFromToIndex_0 9 rfl rfl)
theorem dJ16_checkFromToIndex_10 : decode cJ16_checkFromToIndex 10 = .ok (.iload_n 2, 1) := dk_28 (dk_at dksJ16_checkFromToIndex_0 10 rfl rfl)
theorem dJ16_checkFromToIndex_11 : decode cJ16_checkFromToIndex 11 = .ok (.if_icmp .le 11, 3) := dk_164 0 11 (dk_at dksJ16_checkFromToIndex_0 11 rfl rfl)
theorem dJ16_checkFromToIndex_14 : decode cJ16_checkFromToIndex 14 = .ok (.aload_n 3, 1) := dk_45 (dk_at dksJ16_checkFromToIndex_0 14 rfl rfl)
theorem dJ16_checkFromToIndex_15 : decode cJ16_checkFromToIndex 15 = .ok (.iload_n 0, 1) := dk_26 (dk_at dksJ16_checkFromToIndex_0 15 rfl rfl)
theorem dJ16_checkFromToIndex_16 : decode cJ16_checkFromToIndex 16 = .ok (.iload_n 1, 1) := dk_27 (dk_at dksJ16_checkFromToIndex_0 16 rfl rfl)
theorem dJ16_checkFromToIndex_17 : decode cJ16_checkFromToIndex 17 = .ok (.iload_n 2, 1) := dk_28 (dk_at dksJ16_checkFromToIndex_0 17 rfl rfl)
theorem dJ16_checkFromToIndex_18 : decode cJ16_checkFromToIndex 18 = .ok (.invokestatic 99, 3) := dk_184 0 99 (dk_at dksJ16_checkFromToIndex_0 18 rfl rfl)
theorem dJ16_checkFromToIndex_21 : decode cJ16_checkFromToIndex 21 = .ok (.athrow, 1) := dk_191 (dk_at dksJ16_checkFromToIndex_0 21 rfl rfl)
theorem dJ16_checkFromToIndex_22 : decode cJ16_checkFromToIndex 22 = .ok (.iload_n 0, 1) := dk_26 (dk_at dksJ16_checkFromToIndex_0 22 rfl rfl)
theorem dJ16_checkFromToIndex_23 : decode cJ16_checkFromToIndex 23 = .ok (.ireturn, 1) := dk_172 (dk_at dksJ16_checkFromToIndex_0 23 rfl rfl)
abbrev cJ16_checkFromIndexSize : ByteArray := prog_55_method_13_code
def yJ16_checkFromIndexSize : MethodName := ⟨RJ16, "checkFromIndexSize", "(IIILjava/util/function/BiFunction;)I"⟩
def dkwJ16_checkFromIndexSize_1 : List UInt8 := [172]
abbrev dktJ16_checkFromIndexSize_1 : List UInt8 := dkwJ16_checkFromIndexSize_1 ++ []
def dkwJ16_checkFromIndexSize_0 : List UInt8 := [28, 26, 128, 27, 128, 155, 0, 10, 27, 28, 26, 100, 164, 0, 11, 45, 26, 27, 28, 184, 0, 103, 191, 26]
abbrev dktJ16_checkFromIndexSize_0 : List UInt8 := dkwJ16_checkFromIndexSize_0 ++ dktJ16_checkFromIndexSize_1
theorem dksJ16_checkFromIndexSize_0 : cJ16_checkFromIndexSize.data.toList.drop 0 = dktJ16_checkFromIndexSize_0 := by decide +kernel
theorem dksJ16_checkFromIndexSize_1 : cJ16_checkFromIndexSize.data.toList.drop 24 = dktJ16_checkFromIndexSize_1 := dk_seg dksJ16_checkFromIndexSize_0 24 rfl rfl
theorem dJ16_checkFromIndexSize_0 : decode cJ16_checkFromIndexSize 0 = .ok (.iload_n 2, 1) := dk_28 (dk_at dksJ16_checkFromIndexSize_0 0 rfl rfl)
theorem dJ16_checkFromIndexSize_1 : decode cJ16_checkFromIndexSize 1 = .ok (.iload_n 0, 1) := dk_26 (dk_at dksJ16_checkFromIndexSize_0 1 rfl rfl)
theorem dJ16_checkFromIndexSize_2 : decode cJ16_checkFromIndexSize 2 = .ok (.ior, 1) := dk_128 (dk_at dksJ16_checkFromIndexSize_0 2 rfl rfl)
theorem dJ16_checkFromIndexSize_3 : decode cJ16_checkFromIndexSize 3 = .ok (.iload_n 1, 1) := dk_27 (dk_at dksJ16_checkFromIndexSize_0 3 rfl rfl)
theorem dJ16_checkFromIndexSize_4 : decode cJ16_checkFromIndexSize 4 = .ok (.ior, 1) := dk_128 (dk_at dksJ16_checkFromIndexSize_0 4 rfl rfl)
theorem dJ16_checkFromIndexSize_5 : decode cJ16_checkFromIndexSize 5 = .ok (.ifCond .lt 10, 3) := dk_155 0 10 (dk_at dksJ16_checkFromIndexSize_0 5 rfl rfl)
theorem dJ16_checkFromIndexSize_8 : decode cJ16_checkFromIndexSize 8 = .ok (.iload_n 1, 1) := dk_27 (dk_at dksJ16_checkFromIndexSize_0 8 rfl rfl)
theorem dJ16_checkFromIndexSize_9 : decode cJ16_checkFromIndexSize 9 = .ok (.iload_n 2, 1) := dk_28 (dk_at dksJ16_checkFromIndexSize_0 9 rfl rfl)
theorem dJ16_checkFromIndexSize_10 : decode cJ16_checkFromIndexSize 10 = .ok (.iload_n 0, 1) := dk_26 (dk_at dksJ16_checkFromIndexSize_0 10 rfl rfl)
theorem dJ16_checkFromIndexSize_11 : decode cJ16_checkFromIndexSize 11 = .ok (.isub, 1) := dk_100 (dk_at dksJ16_checkFromIndexSize_0 11 rfl rfl)
theorem dJ16_checkFromIndexSize_12 : decode cJ16_checkFromIndexSize 12 = .ok (.if_icmp .le 11, 3) := dk_164 0 11 (dk_at dksJ16_checkFromIndexSize_0 12 rfl rfl)
theorem dJ16_checkFromIndexSize_15 : decode cJ16_checkFromIndexSize 15 = .ok (.aload_n 3, 1) := dk_45 (dk_at dksJ16_checkFromIndexSize_0 15 rfl rfl)
theorem dJ16_checkFromIndexSize_16 : decode cJ16_checkFromIndexSize 16 = .ok (.iload_n 0, 1) := dk_26 (dk_at dksJ16_checkFromIndexSize_0 16 rfl rfl)
theorem dJ16_checkFromIndexSize_17 : decode cJ16_checkFromIndexSize 17 = .ok (.iload_n 1, 1) := dk_27 (dk_at dksJ16_checkFromIndexSize_0 17 rfl rfl)
theorem dJ16_checkFromIndexSize_18 : decode cJ16_checkFromIndexSize 18 = .ok (.iload_n 2, 1) := dk_28 (dk_at dksJ16_checkFromIndexSize_0 18 rfl rfl)
theorem dJ16_checkFromIndexSize_19 : decode cJ16_checkFromIndexSize 19 = .ok (.invokestatic 103, 3) := dk_184 0 103 (dk_at dksJ16_checkFromIndexSize_0 19 rfl rfl)
theorem dJ16_checkFromIndexSize_22 : decode cJ16_checkFromIndexSize 22 = .ok (.athrow, 1) := dk_191 (dk_at dksJ16_checkFromIndexSize_0 22 rfl rfl)
theorem dJ16_checkFromIndexSize_23 : decode cJ16_checkFromIndexSize 23 = .ok (.iload_n 0, 1) := dk_26 (dk_at dksJ16_checkFromIndexSize_0 23 rfl rfl)
theorem dJ16_checkFromIndexSize_24 : decode cJ16_checkFromIndexSize 24 = .ok (.ireturn, 1) := dk_172 (dk_at dksJ16_checkFromIndexSize_1 0 rfl rfl)
theorem q92 : (Jvm.Cond.initialized "jdk/internal/util/Preconditions") ∈ lw_all := lw_g (lw_at lw_m1 29 rfl) rfl
theorem q426 : (Jvm.Cond.static ({ cls := "jdk/internal/util/Preconditions", name := "checkIndex", desc := "(IILjava/util/function/BiFunction;)I" } : Jvm.MethodName)) ∈ lw_all := lw_g (lw_at lw_m2 123 rfl) rfl
theorem q427 : (Jvm.Cond.code ({ cls := "jdk/internal/util/Preconditions", name := "checkIndex", desc := "(IILjava/util/function/BiFunction;)I" } : Jvm.MethodName) prog_55_method_11_code (3 : Nat) (Option.some Jvm.ClassFile.FieldType.int)) ∈ lw_all := lw_g (lw_at lw_m2 124 rfl) rfl
theorem q793 : (Jvm.Cond.laysStatic "jdk/internal/util/Preconditions" "SIOOBE_FORMATTER" "Ljava/util/function/BiFunction;") ∈ lw_tbl := lw_at lw_m4 10 rfl
theorem q795 : (Jvm.Cond.static ({ cls := "jdk/internal/util/Preconditions", name := "checkFromToIndex", desc := "(IIILjava/util/function/BiFunction;)I" } : Jvm.MethodName)) ∈ lw_all := lw_g (lw_at lw_m4 12 rfl) rfl
theorem q796 : (Jvm.Cond.code ({ cls := "jdk/internal/util/Preconditions", name := "checkFromToIndex", desc := "(IIILjava/util/function/BiFunction;)I" } : Jvm.MethodName) prog_55_method_12_code (4 : Nat) (Option.some Jvm.ClassFile.FieldType.int)) ∈ lw_all := lw_g (lw_at lw_m4 13 rfl) rfl
theorem q841 : (Jvm.Cond.static ({ cls := "jdk/internal/util/Preconditions", name := "checkFromIndexSize", desc := "(IIILjava/util/function/BiFunction;)I" } : Jvm.MethodName)) ∈ lw_all := lw_g (lw_at lw_m4 58 rfl) rfl
theorem q842 : (Jvm.Cond.code ({ cls := "jdk/internal/util/Preconditions", name := "checkFromIndexSize", desc := "(IIILjava/util/function/BiFunction;)I" } : Jvm.MethodName) prog_55_method_13_code (4 : Nat) (Option.some Jvm.ClassFile.FieldType.int)) ∈ lw_all := lw_g (lw_at lw_m4 59 rfl) rfl
/-! java/lang/IllegalStateException -/
set_option maxRecDepth 100000
def RJ17 : String := "java/lang/IllegalStateException"
def TJ17 : u_T := fun k => match k with
  | 0 => ("java/lang/Throwable", "cause", "Ljava/lang/Throwable;", false)
  | 1 => ("java/lang/Throwable", "stackTrace", "[Ljava/lang/StackTraceElement;", false)
  | 2 => ("java/lang/Throwable", "suppressedExceptions", "Ljava/util/List;", false)
  | 3 => ("java/lang/Throwable", "detailMessage", "Ljava/lang/String;", false)
  | 4 => ("java/lang/Throwable", "backtrace", "Ljava/lang/Object;", false)
  | _ => ("java/lang/Throwable", "depth", "I", false)
def tyJ17 : Nat → FieldType := fun k => match k with
  | 0 => .object "java/lang/Throwable"
  | 1 => .array (.object "java/lang/StackTraceElement")
  | 2 => .object "java/util/List"
  | 3 => .object "java/lang/String"
  | 4 => .object "java/lang/Object"
  | _ => .int
abbrev wsJ170 : List Cond := u_ws RJ17 TJ17 6
theorem nmJ17 : ∀ a, a < 6 → ∀ b, b < 6 → a ≠ b → (TJ17 a).2.1 ≠ (TJ17 b).2.1 := by decide +kernel
theorem tyJ17_ok : ∀ k, k < 6 → parseFieldDescriptor (TJ17 k).2.2.1 = some (tyJ17 k) := by decide +kernel
abbrev cJ17_init : ByteArray := prog_27_method_1_code
def yJ17_init : MethodName := ⟨RJ17, "<init>", "()V"⟩
theorem dJ17_init_0 : decode cJ17_init 0 = .ok (.aload_n 0, 1) := by decide +kernel
theorem dJ17_init_1 : decode cJ17_init 1 = .ok (.invokespecial 1, 3) := by decide +kernel
theorem dJ17_init_4 : decode cJ17_init 4 = .ok (.return_, 1) := by decide +kernel
theorem q95 : (Jvm.Cond.initialized "java/lang/IllegalStateException") ∈ lw_all := lw_g (lw_at lw_m1 32 rfl) rfl
theorem q267 : (Jvm.Cond.selects "java/lang/IllegalStateException" ({ cls := "java/lang/Object", name := "getClass", desc := "()Ljava/lang/Class;" } : Jvm.MethodName) ({ cls := "java/lang/Object", name := "getClass", desc := "()Ljava/lang/Class;" } : Jvm.MethodName)) ∈ lw_all := lw_g (lw_at lw_m1 204 rfl) rfl
theorem q945 : (Jvm.Cond.selects "java/lang/IllegalStateException" ({ cls := "java/lang/Throwable", name := "fillInStackTrace", desc := "()Ljava/lang/Throwable;" } : Jvm.MethodName) ({ cls := "java/lang/Throwable", name := "fillInStackTrace", desc := "()Ljava/lang/Throwable;" } : Jvm.MethodName)) ∈ lw_all := lw_g (lw_at lw_m4 162 rfl) rfl
theorem q1119 : (Jvm.Cond.instantiable "java/lang/IllegalStateException" (6 : Nat)) ∈ lw_all := lw_g (lw_at lw_m5 96 rfl) rfl
theorem q1120 : (Jvm.Cond.castable "java/lang/IllegalStateException" "java/lang/IllegalStateException") ∈ lw_tbl := lw_at lw_m5 97 rfl
theorem q1121 : (Jvm.Cond.selects "java/lang/IllegalStateException" ({ cls := "java/lang/Throwable", name := "fillInStackTrace", desc := "(I)Ljava/lang/Throwable;" } : Jvm.MethodName) ({ cls := "java/lang/Throwable", name := "fillInStackTrace", desc := "(I)Ljava/lang/Throwable;" } : Jvm.MethodName)) ∈ lw_all := lw_g (lw_at lw_m5 98 rfl) rfl
theorem q1122 : (Jvm.Cond.lays "java/lang/IllegalStateException" "java/lang/Throwable" "cause" "Ljava/lang/Throwable;") ∈ lw_all := lw_g (lw_at lw_m5 99 rfl) rfl
theorem q1123 : (Jvm.Cond.lays "java/lang/IllegalStateException" "java/lang/Throwable" "stackTrace" "[Ljava/lang/StackTraceElement;") ∈ lw_all := lw_g (lw_at lw_m5 100 rfl) rfl
theorem q1124 : (Jvm.Cond.lays "java/lang/IllegalStateException" "java/lang/Throwable" "suppressedExceptions" "Ljava/util/List;") ∈ lw_all := lw_g (lw_at lw_m5 101 rfl) rfl
theorem q1125 : (Jvm.Cond.lays "java/lang/IllegalStateException" "java/lang/Throwable" "detailMessage" "Ljava/lang/String;") ∈ lw_all := lw_g (lw_at lw_m5 102 rfl) rfl
theorem q1126 : (Jvm.Cond.lays "java/lang/IllegalStateException" "java/lang/Throwable" "backtrace" "Ljava/lang/Object;") ∈ lw_all := lw_g (lw_at lw_m5 103 rfl) rfl
theorem q1128 : (Jvm.Cond.instanceMethod ({ cls := "java/lang/IllegalStateException", name := "<init>", desc := "()V" } : Jvm.MethodName)) ∈ lw_all := lw_g (lw_at lw_m5 105 rfl) rfl
theorem q1129 : (Jvm.Cond.code ({ cls := "java/lang/IllegalStateException", name := "<init>", desc := "()V" } : Jvm.MethodName) prog_27_method_1_code (1 : Nat) (Option.none : Option Jvm.ClassFile.FieldType)) ∈ lw_all := lw_g (lw_at lw_m5 106 rfl) rfl
theorem q1130 : (Jvm.Cond.methodLink "java/lang/IllegalStateException" (1 : Nat) ({ cls := "java/lang/RuntimeException", name := "<init>", desc := "()V" } : Jvm.MethodName)) ∈ lw_all := lw_g (lw_at lw_m5 107 rfl) rfl
theorem q1131 : (Jvm.Cond.lays "java/lang/IllegalStateException" "java/lang/Throwable" "depth" "I") ∈ lw_all := lw_g (lw_at lw_m5 108 rfl) rfl
theorem q1132 : (Jvm.Cond.superclass "java/lang/IllegalStateException" "java/lang/RuntimeException") ∈ lw_all := lw_g (lw_at lw_m5 109 rfl) rfl
theorem q1543 : (Jvm.Cond.selects "java/lang/IllegalStateException" ({ cls := "java/lang/Object", name := "equals", desc := "(Ljava/lang/Object;)Z" } : Jvm.MethodName) ({ cls := "java/lang/Object", name := "equals", desc := "(Ljava/lang/Object;)Z" } : Jvm.MethodName)) ∈ lw_all := lw_g (lw_at lw_m7 40 rfl) rfl
theorem q2078 : (Jvm.Cond.castable "java/lang/IllegalStateException" "java/lang/Object") ∈ lw_tbl := lw_at lw_m9 95 rfl
theorem in_J17 : ∀ w ∈ wsJ170, w ∈ lw_all := lw_in wsJ170 [1122, 1123, 1124, 1125, 1126, 1131] (by decide +kernel) (by decide +kernel)
/-! java/lang/IndexOutOfBoundsException -/
set_option maxRecDepth 100000
def RJ18 : String := "java/lang/IndexOutOfBoundsException"
def TJ18 : u_T := fun k => match k with
  | 0 => ("java/lang/Throwable", "cause", "Ljava/lang/Throwable;", false)
  | 1 => ("java/lang/Throwable", "stackTrace", "[Ljava/lang/StackTraceElement;", false)
  | 2 => ("java/lang/Throwable", "suppressedExceptions", "Ljava/util/List;", false)
  | 3 => ("java/lang/Throwable", "detailMessage", "Ljava/lang/String;", false)
  | 4 => ("java/lang/Throwable", "backtrace", "Ljava/lang/Object;", false)
  | _ => ("java/lang/Throwable", "depth", "I", false)
def tyJ18 : Nat → FieldType := fun k => match k with
  | 0 => .object "java/lang/Throwable"
  | 1 => .array (.object "java/lang/StackTraceElement")
  | 2 => .object "java/util/List"
  | 3 => .object "java/lang/String"
  | 4 => .object "java/lang/Object"
  | _ => .int
abbrev wsJ180 : List Cond := u_ws RJ18 TJ18 6
theorem nmJ18 : ∀ a, a < 6 → ∀ b, b < 6 → a ≠ b → (TJ18 a).2.1 ≠ (TJ18 b).2.1 := by decide +kernel
theorem tyJ18_ok : ∀ k, k < 6 → parseFieldDescriptor (TJ18 k).2.2.1 = some (tyJ18 k) := by decide +kernel
abbrev cJ18_init : ByteArray := prog_28_method_2_code
def yJ18_init : MethodName := ⟨RJ18, "<init>", "(Ljava/lang/String;)V"⟩
def dkwJ18_init_0 : List UInt8 := [42, 43, 183, 0, 7, 177]
abbrev dktJ18_init_0 : List UInt8 := dkwJ18_init_0 ++ []
theorem dksJ18_init_0 : cJ18_init.data.toList.drop 0 = dktJ18_init_0 := by decide +kernel
theorem dJ18_init_0 : decode cJ18_init 0 = .ok (.aload_n 0, 1) := dk_42 (dk_at dksJ18_init_0 0 rfl rfl)
theorem dJ18_init_1 : decode cJ18_init 1 = .ok (.aload_n 1, 1) := dk_43 (dk_at dksJ18_init_0 1 rfl rfl)
theorem dJ18_init_2 : decode cJ18_init 2 = .ok (.invokespecial 7, 3) := dk_183 0 7 (dk_at dksJ18_init_0 2 rfl rfl)
theorem dJ18_init_5 : decode cJ18_init 5 = .ok (.return_, 1) := dk_177 (dk_at dksJ18_init_0 5 rfl rfl)
abbrev cJ18_init_2 : ByteArray := prog_28_method_1_code
def yJ18_init_2 : MethodName := ⟨RJ18, "<init>", "()V"⟩
theorem dJ18_init_2_0 : decode cJ18_init_2 0 = .ok (.aload_n 0, 1) := by decide +kernel
theorem dJ18_init_2_1 : decode cJ18_init_2 1 = .ok (.invokespecial 1, 3) := by decide +kernel
theorem dJ18_init_2_4 : decode cJ18_init_2 4 = .ok (.return_, 1) := by decide +kernel
theorem q99 : (Jvm.Cond.initialized "java/lang/IndexOutOfBoundsException") ∈ lw_all := lw_g (lw_at lw_m1 36 rfl) rfl
theorem q268 : (Jvm.Cond.selects "java/lang/IndexOutOfBoundsException" ({ cls := "java/lang/Object", name := "getClass", desc := "()Ljava/lang/Class;" } : Jvm.MethodName) ({ cls := "java/lang/Object", name := "getClass", desc := "()Ljava/lang/Class;" } : Jvm.MethodName)) ∈ lw_all := lw_g (lw_at lw_m1 205 rfl) rfl
theorem q946 : (Jvm.Cond.selects "java/lang/IndexOutOfBoundsException" ({ cls := "java/lang/Throwable", name := "fillInStackTrace", desc := "()Ljava/lang/Throwable;" } : Jvm.MethodName) ({ cls := "java/lang/Throwable", name := "fillInStackTrace", desc := "()Ljava/lang/Throwable;" } : Jvm.MethodName)) ∈ lw_all := lw_g (lw_at lw_m4 163 rfl) rfl
theorem q1206 : (Jvm.Cond.instanceMethod ({ cls := "java/lang/IndexOutOfBoundsException", name := "<init>", desc := "(Ljava/lang/String;)V" } : Jvm.MethodName)) ∈ lw_all := lw_g (lw_at lw_m5 183 rfl) rfl
theorem q1207 : (Jvm.Cond.code ({ cls := "java/lang/IndexOutOfBoundsException", name := "<init>", desc := "(Ljava/lang/String;)V" } : Jvm.MethodName) prog_28_method_2_code (2 : Nat) (Option.none : Option Jvm.ClassFile.FieldType)) ∈ lw_all := lw_g (lw_at lw_m5 184 rfl) rfl
theorem q1208 : (Jvm.Cond.methodLink "java/lang/IndexOutOfBoundsException" (7 : Nat) ({ cls := "java/lang/RuntimeException", name := "<init>", desc := "(Ljava/lang/String;)V" } : Jvm.MethodName)) ∈ lw_all := lw_g (lw_at lw_m5 185 rfl) rfl
theorem q1217 : (Jvm.Cond.declares ({ cls := "java/lang/IndexOutOfBoundsException", name := "<init>", desc := "()V" } : Jvm.MethodName)) ∈ lw_tbl := lw_at lw_m5 194 rfl
theorem q1218 : (Jvm.Cond.declares ({ cls := "java/lang/IndexOutOfBoundsException", name := "<init>", desc := "(Ljava/lang/String;)V" } : Jvm.MethodName)) ∈ lw_tbl := lw_at lw_m5 195 rfl
theorem q1231 : (Jvm.Cond.instantiable "java/lang/IndexOutOfBoundsException" (6 : Nat)) ∈ lw_all := lw_g (lw_at lw_m5 208 rfl) rfl
theorem q1232 : (Jvm.Cond.castable "java/lang/IndexOutOfBoundsException" "java/lang/IndexOutOfBoundsException") ∈ lw_tbl := lw_at lw_m5 209 rfl
theorem q1233 : (Jvm.Cond.selects "java/lang/IndexOutOfBoundsException" ({ cls := "java/lang/Throwable", name := "fillInStackTrace", desc := "(I)Ljava/lang/Throwable;" } : Jvm.MethodName) ({ cls := "java/lang/Throwable", name := "fillInStackTrace", desc := "(I)Ljava/lang/Throwable;" } : Jvm.MethodName)) ∈ lw_all := lw_g (lw_at lw_m5 210 rfl) rfl
theorem q1234 : (Jvm.Cond.lays "java/lang/IndexOutOfBoundsException" "java/lang/Throwable" "cause" "Ljava/lang/Throwable;") ∈ lw_all := lw_g (lw_at lw_m5 211 rfl) rfl
theorem q1235 : (Jvm.Cond.lays "java/lang/IndexOutOfBoundsException" "java/lang/Throwable" "stackTrace" "[Ljava/lang/StackTraceElement;") ∈ lw_all := lw_g (lw_at lw_m5 212 rfl) rfl
theorem q1236 : (Jvm.Cond.lays "java/lang/IndexOutOfBoundsException" "java/lang/Throwable" "suppressedExceptions" "Ljava/util/List;") ∈ lw_all := lw_g (lw_at lw_m5 213 rfl) rfl
theorem q1237 : (Jvm.Cond.lays "java/lang/IndexOutOfBoundsException" "java/lang/Throwable" "detailMessage" "Ljava/lang/String;") ∈ lw_all := lw_g (lw_at lw_m5 214 rfl) rfl
theorem q1238 : (Jvm.Cond.lays "java/lang/IndexOutOfBoundsException" "java/lang/Throwable" "backtrace" "Ljava/lang/Object;") ∈ lw_all := lw_g (lw_at lw_m5 215 rfl) rfl
theorem q1240 : (Jvm.Cond.instanceMethod ({ cls := "java/lang/IndexOutOfBoundsException", name := "<init>", desc := "()V" } : Jvm.MethodName)) ∈ lw_all := lw_g (lw_at lw_m5 217 rfl) rfl
theorem q1241 : (Jvm.Cond.code ({ cls := "java/lang/IndexOutOfBoundsException", name := "<init>", desc := "()V" } : Jvm.MethodName) prog_28_method_1_code (1 : Nat) (Option.none : Option Jvm.ClassFile.FieldType)) ∈ lw_all := lw_g (lw_at lw_m5 218 rfl) rfl
theorem q1242 : (Jvm.Cond.methodLink "java/lang/IndexOutOfBoundsException" (1 : Nat) ({ cls := "java/lang/RuntimeException", name := "<init>", desc := "()V" } : Jvm.MethodName)) ∈ lw_all := lw_g (lw_at lw_m5 219 rfl) rfl
theorem q1243 : (Jvm.Cond.lays "java/lang/IndexOutOfBoundsException" "java/lang/Throwable" "depth" "I") ∈ lw_all := lw_g (lw_at lw_m5 220 rfl) rfl
theorem q1244 : (Jvm.Cond.superclass "java/lang/IndexOutOfBoundsException" "java/lang/RuntimeException") ∈ lw_all := lw_g (lw_at lw_m5 221 rfl) rfl
theorem q1544 : (Jvm.Cond.selects "java/lang/IndexOutOfBoundsException" ({ cls := "java/lang/Object", name := "equals", desc := "(Ljava/lang/Object;)Z" } : Jvm.MethodName) ({ cls := "java/lang/Object", name := "equals", desc := "(Ljava/lang/Object;)Z" } : Jvm.MethodName)) ∈ lw_all := lw_g (lw_at lw_m7 41 rfl) rfl
theorem q2083 : (Jvm.Cond.castable "java/lang/IndexOutOfBoundsException" "java/lang/Object") ∈ lw_tbl := lw_at lw_m9 100 rfl
theorem in_J18 : ∀ w ∈ wsJ180, w ∈ lw_all := lw_in wsJ180 [1234, 1235, 1236, 1237, 1238, 1243] (by decide +kernel) (by decide +kernel)
/-! java/lang/ArrayIndexOutOfBoundsException -/
set_option maxRecDepth 100000
def RJ19 : String := "java/lang/ArrayIndexOutOfBoundsException"
def TJ19 : u_T := fun k => match k with
  | 0 => ("java/lang/Throwable", "backtrace", "Ljava/lang/Object;", false)
  | 1 => ("java/lang/Throwable", "detailMessage", "Ljava/lang/String;", false)
  | 2 => ("java/lang/Throwable", "cause", "Ljava/lang/Throwable;", false)
  | 3 => ("java/lang/Throwable", "stackTrace", "[Ljava/lang/StackTraceElement;", false)
  | 4 => ("java/lang/Throwable", "depth", "I", false)
  | _ => ("java/lang/Throwable", "suppressedExceptions", "Ljava/util/List;", false)
def tyJ19 : Nat → FieldType := fun k => match k with
  | 0 => .object "java/lang/Object"
  | 1 => .object "java/lang/String"
  | 2 => .object "java/lang/Throwable"
  | 3 => .array (.object "java/lang/StackTraceElement")
  | 4 => .int
  | _ => .object "java/util/List"
abbrev wsJ190 : List Cond := u_ws RJ19 TJ19 6
theorem nmJ19 : ∀ a, a < 6 → ∀ b, b < 6 → a ≠ b → (TJ19 a).2.1 ≠ (TJ19 b).2.1 := by decide +kernel
theorem tyJ19_ok : ∀ k, k < 6 → parseFieldDescriptor (TJ19 k).2.2.1 = some (tyJ19 k) := by decide +kernel
abbrev cJ19_init : ByteArray := prog_21_method_2_code
def yJ19_init : MethodName := ⟨RJ19, "<init>", "(Ljava/lang/String;)V"⟩
def dkwJ19_init_0 : List UInt8 := [42, 43, 183, 0, 7, 177]
abbrev dktJ19_init_0 : List UInt8 := dkwJ19_init_0 ++ []
theorem dksJ19_init_0 : cJ19_init.data.toList.drop 0 = dktJ19_init_0 := by decide +kernel
theorem dJ19_init_0 : decode cJ19_init 0 = .ok (.aload_n 0, 1) := dk_42 (dk_at dksJ19_init_0 0 rfl rfl)
theorem dJ19_init_1 : decode cJ19_init 1 = .ok (.aload_n 1, 1) := dk_43 (dk_at dksJ19_init_0 1 rfl rfl)
theorem dJ19_init_2 : decode cJ19_init 2 = .ok (.invokespecial 7, 3) := dk_183 0 7 (dk_at dksJ19_init_0 2 rfl rfl)
theorem dJ19_init_5 : decode cJ19_init 5 = .ok (.return_, 1) := dk_177 (dk_at dksJ19_init_0 5 rfl rfl)
theorem q100 : (Jvm.Cond.initialized "java/lang/ArrayIndexOutOfBoundsException") ∈ lw_all := lw_g (lw_at lw_m1 37 rfl) rfl
theorem q265 : (Jvm.Cond.selects "java/lang/ArrayIndexOutOfBoundsException" ({ cls := "java/lang/Object", name := "getClass", desc := "()Ljava/lang/Class;" } : Jvm.MethodName) ({ cls := "java/lang/Object", name := "getClass", desc := "()Ljava/lang/Class;" } : Jvm.MethodName)) ∈ lw_all := lw_g (lw_at lw_m1 202 rfl) rfl
theorem q944 : (Jvm.Cond.selects "java/lang/ArrayIndexOutOfBoundsException" ({ cls := "java/lang/Throwable", name := "fillInStackTrace", desc := "()Ljava/lang/Throwable;" } : Jvm.MethodName) ({ cls := "java/lang/Throwable", name := "fillInStackTrace", desc := "()Ljava/lang/Throwable;" } : Jvm.MethodName)) ∈ lw_all := lw_g (lw_at lw_m4 161 rfl) rfl
theorem q1202 : (Jvm.Cond.instantiable "java/lang/ArrayIndexOutOfBoundsException" (6 : Nat)) ∈ lw_all := lw_g (lw_at lw_m5 179 rfl) rfl
theorem q1203 : (Jvm.Cond.instanceMethod ({ cls := "java/lang/ArrayIndexOutOfBoundsException", name := "<init>", desc := "(Ljava/lang/String;)V" } : Jvm.MethodName)) ∈ lw_all := lw_g (lw_at lw_m5 180 rfl) rfl
theorem q1204 : (Jvm.Cond.code ({ cls := "java/lang/ArrayIndexOutOfBoundsException", name := "<init>", desc := "(Ljava/lang/String;)V" } : Jvm.MethodName) prog_21_method_2_code (2 : Nat) (Option.none : Option Jvm.ClassFile.FieldType)) ∈ lw_all := lw_g (lw_at lw_m5 181 rfl) rfl
theorem q1205 : (Jvm.Cond.methodLink "java/lang/ArrayIndexOutOfBoundsException" (7 : Nat) ({ cls := "java/lang/IndexOutOfBoundsException", name := "<init>", desc := "(Ljava/lang/String;)V" } : Jvm.MethodName)) ∈ lw_all := lw_g (lw_at lw_m5 182 rfl) rfl
theorem q1209 : (Jvm.Cond.lays "java/lang/ArrayIndexOutOfBoundsException" "java/lang/Throwable" "backtrace" "Ljava/lang/Object;") ∈ lw_all := lw_g (lw_at lw_m5 186 rfl) rfl
theorem q1210 : (Jvm.Cond.lays "java/lang/ArrayIndexOutOfBoundsException" "java/lang/Throwable" "detailMessage" "Ljava/lang/String;") ∈ lw_all := lw_g (lw_at lw_m5 187 rfl) rfl
theorem q1211 : (Jvm.Cond.lays "java/lang/ArrayIndexOutOfBoundsException" "java/lang/Throwable" "cause" "Ljava/lang/Throwable;") ∈ lw_all := lw_g (lw_at lw_m5 188 rfl) rfl
theorem q1212 : (Jvm.Cond.lays "java/lang/ArrayIndexOutOfBoundsException" "java/lang/Throwable" "stackTrace" "[Ljava/lang/StackTraceElement;") ∈ lw_all := lw_g (lw_at lw_m5 189 rfl) rfl
theorem q1213 : (Jvm.Cond.lays "java/lang/ArrayIndexOutOfBoundsException" "java/lang/Throwable" "depth" "I") ∈ lw_all := lw_g (lw_at lw_m5 190 rfl) rfl
theorem q1214 : (Jvm.Cond.lays "java/lang/ArrayIndexOutOfBoundsException" "java/lang/Throwable" "suppressedExceptions" "Ljava/util/List;") ∈ lw_all := lw_g (lw_at lw_m5 191 rfl) rfl
theorem q1215 : (Jvm.Cond.superclass "java/lang/ArrayIndexOutOfBoundsException" "java/lang/IndexOutOfBoundsException") ∈ lw_all := lw_g (lw_at lw_m5 192 rfl) rfl
theorem q1216 : (Jvm.Cond.castable "java/lang/ArrayIndexOutOfBoundsException" "java/lang/ArrayIndexOutOfBoundsException") ∈ lw_tbl := lw_at lw_m5 193 rfl
theorem q1219 : (Jvm.Cond.selects "java/lang/ArrayIndexOutOfBoundsException" ({ cls := "java/lang/Throwable", name := "fillInStackTrace", desc := "(I)Ljava/lang/Throwable;" } : Jvm.MethodName) ({ cls := "java/lang/Throwable", name := "fillInStackTrace", desc := "(I)Ljava/lang/Throwable;" } : Jvm.MethodName)) ∈ lw_all := lw_g (lw_at lw_m5 196 rfl) rfl
theorem q1541 : (Jvm.Cond.selects "java/lang/ArrayIndexOutOfBoundsException" ({ cls := "java/lang/Object", name := "equals", desc := "(Ljava/lang/Object;)Z" } : Jvm.MethodName) ({ cls := "java/lang/Object", name := "equals", desc := "(Ljava/lang/Object;)Z" } : Jvm.MethodName)) ∈ lw_all := lw_g (lw_at lw_m7 38 rfl) rfl
theorem q2061 : (Jvm.Cond.castable "java/lang/ArrayIndexOutOfBoundsException" "java/lang/IndexOutOfBoundsException") ∈ lw_tbl := lw_at lw_m9 78 rfl
theorem q2082 : (Jvm.Cond.castable "java/lang/ArrayIndexOutOfBoundsException" "java/lang/Object") ∈ lw_tbl := lw_at lw_m9 99 rfl
theorem in_J19 : ∀ w ∈ wsJ190, w ∈ lw_all := lw_in wsJ190 [1209, 1210, 1211, 1212, 1213, 1214] (by decide +kernel) (by decide +kernel)
/-! java/lang/Object -/
set_option maxRecDepth 100000
def RJ23 : String := "java/lang/Object"
abbrev cJ23_init : ByteArray := object_method_1_code
def yJ23_init : MethodName := ⟨RJ23, "<init>", "()V"⟩
theorem dJ23_init_0 : decode cJ23_init 0 = .ok (.return_, 1) := by decide +kernel
abbrev cJ23_equals : ByteArray := object_method_4_code
def yJ23_equals : MethodName := ⟨RJ23, "equals", "(Ljava/lang/Object;)Z"⟩
def dkwJ23_equals_0 : List UInt8 := [42, 43, 166, 0, 7, 4, 167, 0, 4, 3, 172]
abbrev dktJ23_equals_0 : List UInt8 := dkwJ23_equals_0 ++ []
theorem dksJ23_equals_0 : cJ23_equals.data.toList.drop 0 = dktJ23_equals_0 := by decide +kernel
theorem dJ23_equals_0 : decode cJ23_equals 0 = .ok (.aload_n 0, 1) := dk_42 (dk_at dksJ23_equals_0 0 rfl rfl)
theorem dJ23_equals_1 : decode cJ23_equals 1 = .ok (.aload_n 1, 1) := dk_43 (dk_at dksJ23_equals_0 1 rfl rfl)
theorem dJ23_equals_2 : decode cJ23_equals 2 = .ok (.if_acmp .ne 7, 3) := dk_166 0 7 (dk_at dksJ23_equals_0 2 rfl rfl)
theorem dJ23_equals_5 : decode cJ23_equals 5 = .ok (.iconst 1, 1) := dk_4 (dk_at dksJ23_equals_0 5 rfl rfl)
theorem dJ23_equals_6 : decode cJ23_equals 6 = .ok (.goto 4, 3) := dk_167 0 4 (dk_at dksJ23_equals_0 6 rfl rfl)
theorem dJ23_equals_9 : decode cJ23_equals 9 = .ok (.iconst 0, 1) := dk_3 (dk_at dksJ23_equals_0 9 rfl rfl)
theorem dJ23_equals_10 : decode cJ23_equals 10 = .ok (.ireturn, 1) := dk_172 (dk_at dksJ23_equals_0 10 rfl rfl)
theorem q110 : (Jvm.Cond.instanceMethod ({ cls := "java/lang/Object", name := "<init>", desc := "()V" } : Jvm.MethodName)) ∈ lw_all := lw_g (lw_at lw_m1 47 rfl) rfl
theorem q111 : (Jvm.Cond.code ({ cls := "java/lang/Object", name := "<init>", desc := "()V" } : Jvm.MethodName) object_method_1_code (1 : Nat) (Option.none : Option Jvm.ClassFile.FieldType)) ∈ lw_all := lw_g (lw_at lw_m1 48 rfl) rfl
theorem q248 : (Jvm.Cond.instanceMethod ({ cls := "java/lang/Object", name := "getClass", desc := "()Ljava/lang/Class;" } : Jvm.MethodName)) ∈ lw_all := lw_g (lw_at lw_m1 185 rfl) rfl
theorem q249 : (Jvm.Cond.sameMethod "java/lang/Object" "java/lang/Object" "getClass" "()Ljava/lang/Class;") ∈ lw_all := lw_g (lw_at lw_m1 186 rfl) rfl
theorem q274 : (Jvm.Cond.native ({ cls := "java/lang/Object", name := "getClass", desc := "()Ljava/lang/Class;" } : Jvm.MethodName)) ∈ lw_all := lw_g (lw_at lw_m1 211 rfl) rfl
theorem q770 : (Jvm.Cond.native ({ cls := "java/lang/Object", name := "clone", desc := "()Ljava/lang/Object;" } : Jvm.MethodName)) ∈ lw_all := lw_g (lw_at lw_m3 227 rfl) rfl
theorem q771 : (Jvm.Cond.instanceMethod ({ cls := "java/lang/Object", name := "clone", desc := "()Ljava/lang/Object;" } : Jvm.MethodName)) ∈ lw_all := lw_g (lw_at lw_m3 228 rfl) rfl
theorem q1522 : (Jvm.Cond.declares ({ cls := "java/lang/Object", name := "equals", desc := "(Ljava/lang/Object;)Z" } : Jvm.MethodName)) ∈ lw_tbl := lw_at lw_m7 19 rfl
theorem q1524 : (Jvm.Cond.instanceMethod ({ cls := "java/lang/Object", name := "equals", desc := "(Ljava/lang/Object;)Z" } : Jvm.MethodName)) ∈ lw_all := lw_g (lw_at lw_m7 21 rfl) rfl
theorem q1525 : (Jvm.Cond.sameMethod "java/lang/Object" "java/lang/Object" "equals" "(Ljava/lang/Object;)Z") ∈ lw_all := lw_g (lw_at lw_m7 22 rfl) rfl
theorem q1560 : (Jvm.Cond.code ({ cls := "java/lang/Object", name := "equals", desc := "(Ljava/lang/Object;)Z" } : Jvm.MethodName) object_method_4_code (2 : Nat) (Option.some Jvm.ClassFile.FieldType.boolean)) ∈ lw_all := lw_g (lw_at lw_m7 57 rfl) rfl
theorem q1771 : (Jvm.Cond.declares ({ cls := "java/lang/Object", name := "getClass", desc := "()Ljava/lang/Class;" } : Jvm.MethodName)) ∈ lw_tbl := lw_at lw_m8 28 rfl
theorem q1773 : (Jvm.Cond.publicMethod ({ cls := "java/lang/Object", name := "getClass", desc := "()Ljava/lang/Class;" } : Jvm.MethodName)) ∈ lw_tbl := lw_at lw_m8 30 rfl
theorem q2060 : (Jvm.Cond.initialized "java/lang/Object") ∈ lw_all := lw_g (lw_at lw_m9 77 rfl) rfl
