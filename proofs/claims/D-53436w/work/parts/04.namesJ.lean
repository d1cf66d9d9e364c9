/-! java/util/AbstractCollection -/
set_option maxRecDepth 100000
def RJ0 : String := "java/util/AbstractCollection"
abbrev cJ0_init : ByteArray := prog_31_method_1_code
def yJ0_init : MethodName := ⟨RJ0, "<init>", "()V"⟩
theorem dJ0_init_0 : decode cJ0_init 0 = .ok (.aload_n 0, 1) := by decide +kernel
theorem dJ0_init_1 : decode cJ0_init 1 = .ok (.invokespecial 1, 3) := by decide +kernel
theorem dJ0_init_4 : decode cJ0_init 4 = .ok (.return_, 1) := by decide +kernel
theorem q33 : (Jvm.Cond.initialized "java/util/AbstractCollection") ∈ lw_all := lw_g (lw_at lw_m1 3 rfl) rfl
theorem q102 : (Jvm.Cond.instanceMethod ({ cls := "java/util/AbstractCollection", name := "<init>", desc := "()V" } : Jvm.MethodName)) ∈ lw_all := lw_g (lw_at lw_m1 72 rfl) rfl
theorem q103 : (Jvm.Cond.code ({ cls := "java/util/AbstractCollection", name := "<init>", desc := "()V" } : Jvm.MethodName) prog_31_method_1_code (1 : Nat) (Option.none : Option Jvm.ClassFile.FieldType)) ∈ lw_all := lw_g (lw_at lw_m1 73 rfl) rfl
theorem q104 : (Jvm.Cond.methodLink "java/util/AbstractCollection" (1 : Nat) ({ cls := "java/lang/Object", name := "<init>", desc := "()V" } : Jvm.MethodName)) ∈ lw_all := lw_g (lw_at lw_m1 74 rfl) rfl
/-! java/util/AbstractList -/
set_option maxRecDepth 100000
def RJ1 : String := "java/util/AbstractList"
abbrev cJ1_init : ByteArray := prog_32_method_1_code
def yJ1_init : MethodName := ⟨RJ1, "<init>", "()V"⟩
def dkwJ1_init_0 : List UInt8 := [42, 183, 0, 1, 42, 3, 181, 0, 7, 177]
abbrev dktJ1_init_0 : List UInt8 := dkwJ1_init_0 ++ []
theorem dksJ1_init_0 : cJ1_init.data.toList.drop 0 = dktJ1_init_0 := by decide +kernel
theorem dJ1_init_0 : decode cJ1_init 0 = .ok (.aload_n 0, 1) := dk_42 (dk_at dksJ1_init_0 0 rfl rfl)
theorem dJ1_init_1 : decode cJ1_init 1 = .ok (.invokespecial 1, 3) := dk_183 0 1 (dk_at dksJ1_init_0 1 rfl rfl)
theorem dJ1_init_4 : decode cJ1_init 4 = .ok (.aload_n 0, 1) := dk_42 (dk_at dksJ1_init_0 4 rfl rfl)
theorem dJ1_init_5 : decode cJ1_init 5 = .ok (.iconst 0, 1) := dk_3 (dk_at dksJ1_init_0 5 rfl rfl)
theorem dJ1_init_6 : decode cJ1_init 6 = .ok (.putfield 7, 3) := dk_181 0 7 (dk_at dksJ1_init_0 6 rfl rfl)
theorem dJ1_init_9 : decode cJ1_init 9 = .ok (.return_, 1) := dk_177 (dk_at dksJ1_init_0 9 rfl rfl)
theorem q34 : (Jvm.Cond.initialized "java/util/AbstractList") ∈ lw_all := lw_g (lw_at lw_m1 4 rfl) rfl
theorem q99 : (Jvm.Cond.instanceMethod ({ cls := "java/util/AbstractList", name := "<init>", desc := "()V" } : Jvm.MethodName)) ∈ lw_all := lw_g (lw_at lw_m1 69 rfl) rfl
theorem q100 : (Jvm.Cond.code ({ cls := "java/util/AbstractList", name := "<init>", desc := "()V" } : Jvm.MethodName) prog_32_method_1_code (1 : Nat) (Option.none : Option Jvm.ClassFile.FieldType)) ∈ lw_all := lw_g (lw_at lw_m1 70 rfl) rfl
theorem q101 : (Jvm.Cond.methodLink "java/util/AbstractList" (1 : Nat) ({ cls := "java/util/AbstractCollection", name := "<init>", desc := "()V" } : Jvm.MethodName)) ∈ lw_all := lw_g (lw_at lw_m1 71 rfl) rfl
theorem q111 : (Jvm.Cond.fieldLink "java/util/AbstractList" (7 : Nat) "java/util/AbstractList" "modCount" "I") ∈ lw_all := lw_g (lw_at lw_m1 81 rfl) rfl
theorem q120 : (Jvm.Cond.soleField "java/util/AbstractList" "modCount") ∈ lw_all := lw_g (lw_at lw_m1 90 rfl) rfl
/-! java/util/ArrayList -/
set_option maxRecDepth 100000
def RJ2 : String := "java/util/ArrayList"
def TJ2 : u_T := fun k => match k with
  | 0 => ("java/util/AbstractList", "modCount", "I", false)
  | 1 => ("java/util/ArrayList", "elementData", "[Ljava/lang/Object;", false)
  | _ => ("java/util/ArrayList", "size", "I", false)
def tyJ2 : Nat → FieldType := fun k => match k with
  | 0 => .int
  | 1 => .array (.object "java/lang/Object")
  | _ => .int
abbrev wsJ20 : List Cond := u_ws RJ2 TJ2 3
theorem nmJ2 : ∀ a, a < 3 → ∀ b, b < 3 → a ≠ b → (TJ2 a).2.1 ≠ (TJ2 b).2.1 := by decide +kernel
theorem tyJ2_ok : ∀ k, k < 3 → parseFieldDescriptor (TJ2 k).2.2.1 = some (tyJ2 k) := by decide +kernel
abbrev cJ2_init : ByteArray := prog_35_method_2_code
def yJ2_init : MethodName := ⟨RJ2, "<init>", "()V"⟩
def dkwJ2_init_0 : List UInt8 := [42, 183, 0, 1, 42, 178, 0, 39, 181, 0, 9, 177]
abbrev dktJ2_init_0 : List UInt8 := dkwJ2_init_0 ++ []
theorem dksJ2_init_0 : cJ2_init.data.toList.drop 0 = dktJ2_init_0 := by decide +kernel
theorem dJ2_init_0 : decode cJ2_init 0 = .ok (.aload_n 0, 1) := dk_42 (dk_at dksJ2_init_0 0 rfl rfl)
theorem dJ2_init_1 : decode cJ2_init 1 = .ok (.invokespecial 1, 3) := dk_183 0 1 (dk_at dksJ2_init_0 1 rfl rfl)
theorem dJ2_init_4 : decode cJ2_init 4 = .ok (.aload_n 0, 1) := dk_42 (dk_at dksJ2_init_0 4 rfl rfl)
theorem dJ2_init_5 : decode cJ2_init 5 = .ok (.getstatic 39, 3) := dk_178 0 39 (dk_at dksJ2_init_0 5 rfl rfl)
theorem dJ2_init_8 : decode cJ2_init 8 = .ok (.putfield 9, 3) := dk_181 0 9 (dk_at dksJ2_init_0 8 rfl rfl)
theorem dJ2_init_11 : decode cJ2_init 11 = .ok (.return_, 1) := dk_177 (dk_at dksJ2_init_0 11 rfl rfl)
abbrev cJ2_size : ByteArray := prog_35_method_8_code
def yJ2_size : MethodName := ⟨RJ2, "size", "()I"⟩
theorem dJ2_size_0 : decode cJ2_size 0 = .ok (.aload_n 0, 1) := by decide +kernel
theorem dJ2_size_1 : decode cJ2_size 1 = .ok (.getfield 48, 3) := by decide +kernel
theorem dJ2_size_4 : decode cJ2_size 4 = .ok (.ireturn, 1) := by decide +kernel
abbrev cJ2_iterator : ByteArray := prog_35_method_55_code
def yJ2_iterator : MethodName := ⟨RJ2, "iterator", "()Ljava/util/Iterator;"⟩
def dkwJ2_iterator_0 : List UInt8 := [187, 1, 11, 89, 42, 183, 1, 13, 176]
abbrev dktJ2_iterator_0 : List UInt8 := dkwJ2_iterator_0 ++ []
theorem dksJ2_iterator_0 : cJ2_iterator.data.toList.drop 0 = dktJ2_iterator_0 := by decide +kernel
theorem dJ2_iterator_0 : decode cJ2_iterator 0 = .ok (.new 267, 3) := dk_187 1 11 (dk_at dksJ2_iterator_0 0 rfl rfl)
theorem dJ2_iterator_3 : decode cJ2_iterator 3 = .ok (.dup, 1) := dk_89 (dk_at dksJ2_iterator_0 3 rfl rfl)
theorem dJ2_iterator_4 : decode cJ2_iterator 4 = .ok (.aload_n 0, 1) := dk_42 (dk_at dksJ2_iterator_0 4 rfl rfl)
theorem dJ2_iterator_5 : decode cJ2_iterator 5 = .ok (.invokespecial 269, 3) := dk_183 1 13 (dk_at dksJ2_iterator_0 5 rfl rfl)
theorem dJ2_iterator_8 : decode cJ2_iterator 8 = .ok (.areturn, 1) := dk_176 (dk_at dksJ2_iterator_0 8 rfl rfl)
abbrev cJ2_add : ByteArray := prog_35_method_25_code
def yJ2_add : MethodName := ⟨RJ2, "add", "(Ljava/lang/Object;)Z"⟩
def dkwJ2_add_1 : List UInt8 := [172]
abbrev dktJ2_add_1 : List UInt8 := dkwJ2_add_1 ++ []
def dkwJ2_add_0 : List UInt8 := [42, 89, 180, 0, 63, 4, 96, 181, 0, 63, 42, 43, 42, 180, 0, 9, 42, 180, 0, 48, 182, 0, 131, 4]
abbrev dktJ2_add_0 : List UInt8 := dkwJ2_add_0 ++ dktJ2_add_1
theorem dksJ2_add_0 : cJ2_add.data.toList.drop 0 = dktJ2_add_0 := by decide +kernel
theorem dksJ2_add_1 : cJ2_add.data.toList.drop 24 = dktJ2_add_1 := dk_seg dksJ2_add_0 24 rfl rfl
theorem dJ2_add_0 : decode cJ2_add 0 = .ok (.aload_n 0, 1) := dk_42 (dk_at dksJ2_add_0 0 rfl rfl)
theorem dJ2_add_1 : decode cJ2_add 1 = .ok (.dup, 1) := dk_89 (dk_at dksJ2_add_0 1 rfl rfl)
theorem dJ2_add_2 : decode cJ2_add 2 = .ok (.getfield 63, 3) := dk_180 0 63 (dk_at dksJ2_add_0 2 rfl rfl)
theorem dJ2_add_5 : decode cJ2_add 5 = .ok (.iconst 1, 1) := dk_4 (dk_at dksJ2_add_0 5 rfl rfl)
theorem dJ2_add_6 : decode cJ2_add 6 = .ok (.iadd, 1) := dk_96 (dk_at dksJ2_add_0 6 rfl rfl)
theorem dJ2_add_7 : decode cJ2_add 7 = .ok (.putfield 63, 3) := dk_181 0 63 (dk_at dksJ2_add_0 7 rfl rfl)
theorem dJ2_add_10 : decode cJ2_add 10 = .ok (.aload_n 0, 1) := dk_42 (dk_at dksJ2_add_0 10 rfl rfl)
theorem dJ2_add_11 : decode cJ2_add 11 = .ok (.aload_n 1, 1) := dk_43 (dk_at dksJ2_add_0 11 rfl rfl)
theorem dJ2_add_12 : decode cJ2_add 12 = .ok (.aload_n 0, 1) := dk_42 (dk_at dksJ2_add_0 12 rfl rfl)
theorem dJ2_add_13 : decode cJ2_add 13 = .ok (.getfield 9, 3) := dk_180 0 9 (dk_at dksJ2_add_0 13 rfl rfl)
theorem dJ2_add_16 : decode cJ2_add 16 = .ok (.aload_n 0, 1) := dk_42 (dk_at dksJ2_add_0 16 rfl rfl)
theorem dJ2_add_17 : decode cJ2_add 17 = .ok (.getfield 48, 3) := dk_180 0 48 (dk_at dksJ2_add_0 17 rfl rfl)
theorem dJ2_add_20 : decode cJ2_add 20 = .ok (.invokevirtual 131, 3) := dk_182 0 131 (dk_at dksJ2_add_0 20 rfl rfl)
theorem dJ2_add_23 : decode cJ2_add 23 = .ok (.iconst 1, 1) := dk_4 (dk_at dksJ2_add_0 23 rfl rfl)
theorem dJ2_add_24 : decode cJ2_add 24 = .ok (.ireturn, 1) := dk_172 (dk_at dksJ2_add_1 0 rfl rfl)
abbrev cJ2_add_2 : ByteArray := prog_35_method_24_code
def yJ2_add_2 : MethodName := ⟨RJ2, "add", "(Ljava/lang/Object;[Ljava/lang/Object;I)V"⟩
def dkwJ2_add_2_0 : List UInt8 := [29, 44, 190, 160, 0, 8, 42, 182, 0, 129, 77, 44, 29, 43, 83, 42, 29, 4, 96, 181, 0, 48, 177]
abbrev dktJ2_add_2_0 : List UInt8 := dkwJ2_add_2_0 ++ []
theorem dksJ2_add_2_0 : cJ2_add_2.data.toList.drop 0 = dktJ2_add_2_0 := by decide +kernel
theorem dJ2_add_2_0 : decode cJ2_add_2 0 = .ok (.iload_n 3, 1) := dk_29 (dk_at dksJ2_add_2_0 0 rfl rfl)
theorem dJ2_add_2_1 : decode cJ2_add_2 1 = .ok (.aload_n 2, 1) := dk_44 (dk_at dksJ2_add_2_0 1 rfl rfl)
theorem dJ2_add_2_2 : decode cJ2_add_2 2 = .ok (.arraylength, 1) := dk_190 (dk_at dksJ2_add_2_0 2 rfl rfl)
theorem dJ2_add_2_3 : decode cJ2_add_2 3 = .ok (.if_icmp .ne 8, 3) := dk_160 0 8 (dk_at dksJ2_add_2_0 3 rfl rfl)
theorem dJ2_add_2_6 : decode cJ2_add_2 6 = .ok (.aload_n 0, 1) := dk_42 (dk_at dksJ2_add_2_0 6 rfl rfl)
theorem dJ2_add_2_7 : decode cJ2_add_2 7 = .ok (.invokevirtual 129, 3) := dk_182 0 129 (dk_at dksJ2_add_2_0 7 rfl rfl)
theorem dJ2_add_2_10 : decode cJ2_add_2 10 = .ok (.astore_n 2, 1) := dk_77 (dk_at dksJ2_add_2_0 10 rfl rfl)
theorem dJ2_add_2_11 : decode cJ2_add_2 11 = .ok (.aload_n 2, 1) := dk_44 (dk_at dksJ2_add_2_0 11 rfl rfl)
theorem dJ2_add_2_12 : decode cJ2_add_2 12 = .ok (.iload_n 3, 1) := dk_29 (dk_at dksJ2_add_2_0 12 rfl rfl)
theorem dJ2_add_2_13 : decode cJ2_add_2 13 = .ok (.aload_n 1, 1) := dk_43 (dk_at dksJ2_add_2_0 13 rfl rfl)
theorem dJ2_add_2_14 : decode cJ2_add_2 14 = .ok (.aastore, 1) := dk_83 (dk_at dksJ2_add_2_0 14 rfl rfl)
theorem dJ2_add_2_15 : decode cJ2_add_2 15 = .ok (.aload_n 0, 1) := dk_42 (dk_at dksJ2_add_2_0 15 rfl rfl)
theorem dJ2_add_2_16 : decode cJ2_add_2 16 = .ok (.iload_n 3, 1) := dk_29 (dk_at dksJ2_add_2_0 16 rfl rfl)
theorem dJ2_add_2_17 : decode cJ2_add_2 17 = .ok (.iconst 1, 1) := dk_4 (dk_at dksJ2_add_2_0 17 rfl rfl)
theorem dJ2_add_2_18 : decode cJ2_add_2 18 = .ok (.iadd, 1) := dk_96 (dk_at dksJ2_add_2_0 18 rfl rfl)
theorem dJ2_add_2_19 : decode cJ2_add_2 19 = .ok (.putfield 48, 3) := dk_181 0 48 (dk_at dksJ2_add_2_0 19 rfl rfl)
theorem dJ2_add_2_22 : decode cJ2_add_2 22 = .ok (.return_, 1) := dk_177 (dk_at dksJ2_add_2_0 22 rfl rfl)
abbrev cJ2_grow : ByteArray := prog_35_method_7_code
def yJ2_grow : MethodName := ⟨RJ2, "grow", "()[Ljava/lang/Object;"⟩
def dkwJ2_grow_0 : List UInt8 := [42, 42, 180, 0, 48, 4, 96, 182, 0, 69, 176]
abbrev dktJ2_grow_0 : List UInt8 := dkwJ2_grow_0 ++ []
theorem dksJ2_grow_0 : cJ2_grow.data.toList.drop 0 = dktJ2_grow_0 := by decide +kernel
theorem dJ2_grow_0 : decode cJ2_grow 0 = .ok (.aload_n 0, 1) := dk_42 (dk_at dksJ2_grow_0 0 rfl rfl)
theorem dJ2_grow_1 : decode cJ2_grow 1 = .ok (.aload_n 0, 1) := dk_42 (dk_at dksJ2_grow_0 1 rfl rfl)
theorem dJ2_grow_2 : decode cJ2_grow 2 = .ok (.getfield 48, 3) := dk_180 0 48 (dk_at dksJ2_grow_0 2 rfl rfl)
theorem dJ2_grow_5 : decode cJ2_grow 5 = .ok (.iconst 1, 1) := dk_4 (dk_at dksJ2_grow_0 5 rfl rfl)
theorem dJ2_grow_6 : decode cJ2_grow 6 = .ok (.iadd, 1) := dk_96 (dk_at dksJ2_grow_0 6 rfl rfl)
theorem dJ2_grow_7 : decode cJ2_grow 7 = .ok (.invokevirtual 69, 3) := dk_182 0 69 (dk_at dksJ2_grow_0 7 rfl rfl)
theorem dJ2_grow_10 : decode cJ2_grow 10 = .ok (.areturn, 1) := dk_176 (dk_at dksJ2_grow_0 10 rfl rfl)
abbrev cJ2_grow_2 : ByteArray := prog_35_method_6_code
def yJ2_grow_2 : MethodName := ⟨RJ2, "grow", "(I)[Ljava/lang/Object;"⟩
def dkwJ2_grow_2_2 : List UInt8 := [27, 184, 0, 79, 189, 0, 7, 90, 181, 0, 9, 176]
abbrev dktJ2_grow_2_2 : List UInt8 := dkwJ2_grow_2_2 ++ []
def dkwJ2_grow_2_1 : List UInt8 := [28, 4, 122, 184, 0, 73, 62, 42, 42, 180, 0, 9, 29, 184, 0, 66, 90, 181, 0, 9, 176, 42, 16, 10]
abbrev dktJ2_grow_2_1 : List UInt8 := dkwJ2_grow_2_1 ++ dktJ2_grow_2_2
def dkwJ2_grow_2_0 : List UInt8 := [42, 180, 0, 9, 190, 61, 28, 157, 0, 13, 42, 180, 0, 9, 178, 0, 39, 165, 0, 28, 28, 27, 28, 100]
abbrev dktJ2_grow_2_0 : List UInt8 := dkwJ2_grow_2_0 ++ dktJ2_grow_2_1
theorem dksJ2_grow_2_0 : cJ2_grow_2.data.toList.drop 0 = dktJ2_grow_2_0 := by decide +kernel
theorem dksJ2_grow_2_1 : cJ2_grow_2.data.toList.drop 24 = dktJ2_grow_2_1 := dk_seg dksJ2_grow_2_0 24 rfl rfl
theorem dksJ2_grow_2_2 : cJ2_grow_2.data.toList.drop 48 = dktJ2_grow_2_2 := dk_seg dksJ2_grow_2_1 24 rfl rfl
theorem dJ2_grow_2_0 : decode cJ2_grow_2 0 = .ok (.aload_n 0, 1) := dk_42 (dk_at dksJ2_grow_2_0 0 rfl rfl)
theorem dJ2_grow_2_1 : decode cJ2_grow_2 1 = .ok (.getfield 9, 3) := dk_180 0 9 (dk_at dksJ2_grow_2_0 1 rfl rfl)
theorem dJ2_grow_2_4 : decode cJ2_grow_2 4 = .ok (.arraylength, 1) := dk_190 (dk_at dksJ2_grow_2_0 4 rfl rfl)
theorem dJ2_grow_2_5 : decode cJ2_grow_2 5 = .ok (.istore_n 2, 1) := dk_61 (dk_at dksJ2_grow_2_0 5 rfl rfl)
theorem dJ2_grow_2_6 : decode cJ2_grow_2 6 = .ok (.iload_n 2, 1) := dk_28 (dk_at dksJ2_grow_2_0 6 rfl rfl)
theorem dJ2_grow_2_7 : decode cJ2_grow_2 7 = .ok (.ifCond .gt 13, 3) := dk_157 0 13 (dk_at dksJ2_grow_2_0 7 rfl rfl)
theorem dJ2_grow_2_10 : decode cJ2_grow_2 10 = .ok (.aload_n 0, 1) := dk_42 (dk_at dksJ2_grow_2_0 10 rfl rfl)
theorem dJ2_grow_2_11 : decode cJ2_grow_2 11 = .ok (.getfield 9, 3) := dk_180 0 9 (dk_at dksJ2_grow_2_0 11 rfl rfl)
theorem dJ2_grow_2_14 : decode cJ2_grow_2 14 = .ok (.getstatic 39, 3) := dk_178 0 39 (dk_at dksJ2_grow_2_0 14 rfl rfl)
theorem dJ2_grow_2_17 : decode cJ2_grow_2 17 = .ok (.if_acmp .eq 28, 3) := dk_165 0 28 (dk_at dksJ2_grow_2_0 17 rfl rfl)
theorem dJ2_grow_2_20 : decode cJ2_grow_2 20 = .ok (.iload_n 2, 1) := dk_28 (dk_at dksJ2_grow_2_0 20 rfl rfl)
theorem dJ2_grow_2_21 : decode cJ2_grow_2 21 = .ok (.iload_n 1, 1) := dk_27 (dk_at dksJ2_grow_2_0 21 rfl rfl)
theorem dJ2_grow_2_22 : decode cJ2_grow_2 22 = .ok (.iload_n 2, 1) := dk_28 (dk_at dksJ2_grow_2_0 22 rfl rfl)
theorem dJ2_grow_2_23 : decode cJ2_grow_2 23 = .ok (.isub, 1) := dk_100 (dk_at dksJ2_grow_2_0 23 rfl rfl)
theorem dJ2_grow_2_24 : decode cJ2_grow_2 24 = .ok (.iload_n 2, 1) := dk_28 (dk_at dksJ2_grow_2_1 0 rfl rfl)
theorem dJ2_grow_2_25 : decode cJ2_grow_2 25 = .ok (.iconst 1, 1) := dk_4 (dk_at dksJ2_grow_2_1 1 rfl rfl)
theorem dJ2_grow_2_26 : decode cJ2_grow_2 26 = .ok (.ishr, 1) := dk_122 (dk_at dksJ2_grow_2_1 2 rfl rfl)
theorem dJ2_grow_2_27 : decode cJ2_grow_2 27 = .ok (.invokestatic 73, 3) := dk_184 0 73 (dk_at dksJ2_grow_2_1 3 rfl rfl)
theorem dJ2_grow_2_30 : decode cJ2_grow_2 30 = .ok (.istore_n 3, 1) := dk_62 (dk_at dksJ2_grow_2_1 6 rfl rfl)
theorem dJ2_grow_2_31 : decode cJ2_grow_2 31 = .ok (.aload_n 0, 1) := dk_42 (dk_at dksJ2_grow_2_1 7 rfl rfl)
theorem dJ2_grow_2_32 : decode cJ2_grow_2 32 = .ok (.aload_n 0, 1) := dk_42 (dk_at dksJ2_grow_2_1 8 rfl rfl)
theorem dJ2_grow_2_33 : decode cJ2_grow_2 33 = .ok (.getfield 9, 3) := dk_180 0 9 (dk_at dksJ2_grow_2_1 9 rfl rfl)
theorem dJ2_grow_2_36 : decode cJ2_grow_2 36 = .ok (.iload_n 3, 1) := dk_29 (dk_at dksJ2_grow_2_1 12 rfl rfl)
theorem dJ2_grow_2_37 : decode cJ2_grow_2 37 = .ok (.invokestatic 66, 3) := dk_184 0 66 (dk_at dksJ2_grow_2_1 13 rfl rfl)
theorem dJ2_grow_2_40 : decode cJ2_grow_2 40 = .ok (.dup_x1, 1) := dk_90 (dk_at dksJ2_grow_2_1 16 rfl rfl)
theorem dJ2_grow_2_41 : decode cJ2_grow_2 41 = .ok (.putfield 9, 3) := dk_181 0 9 (dk_at dksJ2_grow_2_1 17 rfl rfl)
theorem dJ2_grow_2_44 : decode cJ2_grow_2 44 = .ok (.areturn, 1) := dk_176 (dk_at dksJ2_grow_2_1 20 rfl rfl)
theorem dJ2_grow_2_45 : decode cJ2_grow_2 45 = .ok (.aload_n 0, 1) := dk_42 (dk_at dksJ2_grow_2_1 21 rfl rfl)
theorem dJ2_grow_2_46 : decode cJ2_grow_2 46 = .ok (.bipush 10, 2) := dk_16 10 (dk_at dksJ2_grow_2_1 22 rfl rfl)
theorem dJ2_grow_2_48 : decode cJ2_grow_2 48 = .ok (.iload_n 1, 1) := dk_27 (dk_at dksJ2_grow_2_2 0 rfl rfl)
theorem dJ2_grow_2_49 : decode cJ2_grow_2 49 = .ok (.invokestatic 79, 3) := dk_184 0 79 (dk_at dksJ2_grow_2_2 1 rfl rfl)
theorem dJ2_grow_2_52 : decode cJ2_grow_2 52 = .ok (.anewarray 7, 3) := dk_189 0 7 (dk_at dksJ2_grow_2_2 4 rfl rfl)
theorem dJ2_grow_2_55 : decode cJ2_grow_2 55 = .ok (.dup_x1, 1) := dk_90 (dk_at dksJ2_grow_2_2 7 rfl rfl)
theorem dJ2_grow_2_56 : decode cJ2_grow_2 56 = .ok (.putfield 9, 3) := dk_181 0 9 (dk_at dksJ2_grow_2_2 8 rfl rfl)
theorem dJ2_grow_2_59 : decode cJ2_grow_2 59 = .ok (.areturn, 1) := dk_176 (dk_at dksJ2_grow_2_2 11 rfl rfl)
abbrev cJ2_get : ByteArray := prog_35_method_20_code
def yJ2_get : MethodName := ⟨RJ2, "get", "(I)Ljava/lang/Object;"⟩
def dkwJ2_get_0 : List UInt8 := [27, 42, 180, 0, 48, 184, 0, 118, 87, 42, 27, 182, 0, 123, 176]
abbrev dktJ2_get_0 : List UInt8 := dkwJ2_get_0 ++ []
theorem dksJ2_get_0 : cJ2_get.data.toList.drop 0 = dktJ2_get_0 := by decide +kernel
theorem dJ2_get_0 : decode cJ2_get 0 = .ok (.iload_n 1, 1) := dk_27 (dk_at dksJ2_get_0 0 rfl rfl)
theorem dJ2_get_1 : decode cJ2_get 1 = .ok (.aload_n 0, 1) := dk_42 (dk_at dksJ2_get_0 1 rfl rfl)
theorem dJ2_get_2 : decode cJ2_get 2 = .ok (.getfield 48, 3) := dk_180 0 48 (dk_at dksJ2_get_0 2 rfl rfl)
theorem dJ2_get_5 : decode cJ2_get 5 = .ok (.invokestatic 118, 3) := dk_184 0 118 (dk_at dksJ2_get_0 5 rfl rfl)
theorem dJ2_get_8 : decode cJ2_get 8 = .ok (.pop, 1) := dk_87 (dk_at dksJ2_get_0 8 rfl rfl)
theorem dJ2_get_9 : decode cJ2_get 9 = .ok (.aload_n 0, 1) := dk_42 (dk_at dksJ2_get_0 9 rfl rfl)
theorem dJ2_get_10 : decode cJ2_get 10 = .ok (.iload_n 1, 1) := dk_27 (dk_at dksJ2_get_0 10 rfl rfl)
theorem dJ2_get_11 : decode cJ2_get 11 = .ok (.invokevirtual 123, 3) := dk_182 0 123 (dk_at dksJ2_get_0 11 rfl rfl)
theorem dJ2_get_14 : decode cJ2_get 14 = .ok (.areturn, 1) := dk_176 (dk_at dksJ2_get_0 14 rfl rfl)
abbrev cJ2_elementData : ByteArray := prog_35_method_18_code
def yJ2_elementData : MethodName := ⟨RJ2, "elementData", "(I)Ljava/lang/Object;"⟩
def dkwJ2_elementData_0 : List UInt8 := [42, 180, 0, 9, 27, 50, 176]
abbrev dktJ2_elementData_0 : List UInt8 := dkwJ2_elementData_0 ++ []
theorem dksJ2_elementData_0 : cJ2_elementData.data.toList.drop 0 = dktJ2_elementData_0 := by decide +kernel
theorem dJ2_elementData_0 : decode cJ2_elementData 0 = .ok (.aload_n 0, 1) := dk_42 (dk_at dksJ2_elementData_0 0 rfl rfl)
theorem dJ2_elementData_1 : decode cJ2_elementData 1 = .ok (.getfield 9, 3) := dk_180 0 9 (dk_at dksJ2_elementData_0 1 rfl rfl)
theorem dJ2_elementData_4 : decode cJ2_elementData 4 = .ok (.iload_n 1, 1) := dk_27 (dk_at dksJ2_elementData_0 4 rfl rfl)
theorem dJ2_elementData_5 : decode cJ2_elementData 5 = .ok (.aaload, 1) := dk_50 (dk_at dksJ2_elementData_0 5 rfl rfl)
theorem dJ2_elementData_6 : decode cJ2_elementData 6 = .ok (.areturn, 1) := dk_176 (dk_at dksJ2_elementData_0 6 rfl rfl)
abbrev cJ2_add_3 : ByteArray := prog_35_method_26_code
def yJ2_add_3 : MethodName := ⟨RJ2, "add", "(ILjava/lang/Object;)V"⟩
def dkwJ2_add_3_2 : List UInt8 := [29, 27, 100, 184, 0, 112, 25, 4, 27, 44, 83, 42, 29, 4, 96, 181, 0, 48, 177]
abbrev dktJ2_add_3_2 : List UInt8 := dkwJ2_add_3_2 ++ []
def dkwJ2_add_3_1 : List UInt8 := [180, 0, 9, 89, 58, 4, 190, 160, 0, 9, 42, 182, 0, 129, 58, 4, 25, 4, 27, 25, 4, 27, 4, 96]
abbrev dktJ2_add_3_1 : List UInt8 := dkwJ2_add_3_1 ++ dktJ2_add_3_2
def dkwJ2_add_3_0 : List UInt8 := [42, 27, 182, 0, 135, 42, 89, 180, 0, 63, 4, 96, 181, 0, 63, 42, 180, 0, 48, 89, 62, 42]
abbrev dktJ2_add_3_0 : List UInt8 := dkwJ2_add_3_0 ++ dktJ2_add_3_1
theorem dksJ2_add_3_0 : cJ2_add_3.data.toList.drop 0 = dktJ2_add_3_0 := by decide +kernel
theorem dksJ2_add_3_1 : cJ2_add_3.data.toList.drop 22 = dktJ2_add_3_1 := dk_seg dksJ2_add_3_0 22 rfl rfl
theorem dksJ2_add_3_2 : cJ2_add_3.data.toList.drop 46 = dktJ2_add_3_2 := dk_seg dksJ2_add_3_1 24 rfl rfl
theorem dJ2_add_3_0 : decode cJ2_add_3 0 = .ok (.aload_n 0, 1) := dk_42 (dk_at dksJ2_add_3_0 0 rfl rfl)
theorem dJ2_add_3_1 : decode cJ2_add_3 1 = .ok (.iload_n 1, 1) := dk_27 (dk_at dksJ2_add_3_0 1 rfl rfl)
theorem dJ2_add_3_2 : decode cJ2_add_3 2 = .ok (.invokevirtual 135, 3) := dk_182 0 135 (dk_at dksJ2_add_3_0 2 rfl rfl)
theorem dJ2_add_3_5 : decode cJ2_add_3 5 = .ok (.aload_n 0, 1) := dk_42 (dk_at dksJ2_add_3_0 5 rfl rfl)
theorem dJ2_add_3_6 : decode cJ2_add_3 6 = .ok (.dup, 1) := dk_89 (dk_at dksJ2_add_3_0 6 rfl rfl)
theorem dJ2_add_3_7 : decode cJ2_add_3 7 = .ok (.getfield 63, 3) := dk_180 0 63 (dk_at dksJ2_add_3_0 7 rfl rfl)
theorem dJ2_add_3_10 : decode cJ2_add_3 10 = .ok (.iconst 1, 1) := dk_4 (dk_at dksJ2_add_3_0 10 rfl rfl)
theorem dJ2_add_3_11 : decode cJ2_add_3 11 = .ok (.iadd, 1) := dk_96 (dk_at dksJ2_add_3_0 11 rfl rfl)
theorem dJ2_add_3_12 : decode cJ2_add_3 12 = .ok (.putfield 63, 3) := dk_181 0 63 (dk_at dksJ2_add_3_0 12 rfl rfl)
theorem dJ2_add_3_15 : decode cJ2_add_3 15 = .ok (.aload_n 0, 1) := dk_42 (dk_at dksJ2_add_3_0 15 rfl rfl)
theorem dJ2_add_3_16 : decode cJ2_add_3 16 = .ok (.getfield 48, 3) := dk_180 0 48 (dk_at dksJ2_add_3_0 16 rfl rfl)
theorem dJ2_add_3_19 : decode cJ2_add_3 19 = .ok (.dup, 1) := dk_89 (dk_at dksJ2_add_3_0 19 rfl rfl)
theorem dJ2_add_3_20 : decode cJ2_add_3 20 = .ok (.istore_n 3, 1) := dk_62 (dk_at dksJ2_add_3_0 20 rfl rfl)
theorem dJ2_add_3_21 : decode cJ2_add_3 21 = .ok (.aload_n 0, 1) := dk_42 (dk_at dksJ2_add_3_0 21 rfl rfl)
theorem dJ2_add_3_22 : decode cJ2_add_3 22 = .ok (.getfield 9, 3) := dk_180 0 9 (dk_at dksJ2_add_3_1 0 rfl rfl)
theorem dJ2_add_3_25 : decode cJ2_add_3 25 = .ok (.dup, 1) := dk_89 (dk_at dksJ2_add_3_1 3 rfl rfl)
theorem dJ2_add_3_26 : decode cJ2_add_3 26 = .ok (.astore 4, 2) := dk_58 4 (dk_at dksJ2_add_3_1 4 rfl rfl)
theorem dJ2_add_3_28 : decode cJ2_add_3 28 = .ok (.arraylength, 1) := dk_190 (dk_at dksJ2_add_3_1 6 rfl rfl)
theorem dJ2_add_3_29 : decode cJ2_add_3 29 = .ok (.if_icmp .ne 9, 3) := dk_160 0 9 (dk_at dksJ2_add_3_1 7 rfl rfl)
theorem dJ2_add_3_32 : decode cJ2_add_3 32 = .ok (.aload_n 0, 1) := dk_42 (dk_at dksJ2_add_3_1 10 rfl rfl)
theorem dJ2_add_3_33 : decode cJ2_add_3 33 = .ok (.invokevirtual 129, 3) := dk_182 0 129 (dk_at dksJ2_add_3_1 11 rfl rfl)
theorem dJ2_add_3_36 : decode cJ2_add_3 36 = .ok (.astore 4, 2) := dk_58 4 (dk_at dksJ2_add_3_1 14 rfl rfl)
theorem dJ2_add_3_38 : decode cJ2_add_3 38 = .ok (.aload 4, 2) := dk_25 4 (dk_at dksJ2_add_3_1 16 rfl rfl)
theorem dJ2_add_3_40 : decode cJ2_add_3 40 = .ok (.iload_n 1, 1) := dk_27 (dk_at dksJ2_add_3_1 18 rfl rfl)
theorem dJ2_add_3_41 : decode cJ2_add_3 41 = .ok (.aload 4, 2) := dk_25 4 (dk_at dksJ2_add_3_1 19 rfl rfl)
theorem dJ2_add_3_43 : decode cJ2_add_3 43 = .ok (.iload_n 1, 1) := dk_27 (dk_at dksJ2_add_3_1 21 rfl rfl)
theorem dJ2_add_3_44 : decode cJ2_add_3 44 = .ok (.iconst 1, 1) := dk_4 (dk_at dksJ2_add_3_1 22 rfl rfl)
theorem dJ2_add_3_45 : decode cJ2_add_3 45 = .ok (.iadd, 1) := dk_96 (dk_at dksJ2_add_3_1 23 rfl rfl)
theorem dJ2_add_3_46 : decode cJ2_add_3 46 = .ok (.iload_n 3, 1) := dk_29 (dk_at dksJ2_add_3_2 0 rfl rfl)
theorem dJ2_add_3_47 : decode cJ2_add_3 47 = .ok (.iload_n 1, 1) := dk_27 (dk_at dksJ2_add_3_2 1 rfl rfl)
theorem dJ2_add_3_48 : decode cJ2_add_3 48 = .ok (.isub, 1) := dk_100 (dk_at dksJ2_add_3_2 2 rfl rfl)
theorem dJ2_add_3_49 : decode cJ2_add_3 49 = .ok (.invokestatic 112, 3) := dk_184 0 112 (dk_at dksJ2_add_3_2 3 rfl rfl)
theorem dJ2_add_3_52 : decode cJ2_add_3 52 = .ok (.aload 4, 2) := dk_25 4 (dk_at dksJ2_add_3_2 6 rfl rfl)
theorem dJ2_add_3_54 : decode cJ2_add_3 54 = .ok (.iload_n 1, 1) := dk_27 (dk_at dksJ2_add_3_2 8 rfl rfl)
theorem dJ2_add_3_55 : decode cJ2_add_3 55 = .ok (.aload_n 2, 1) := dk_44 (dk_at dksJ2_add_3_2 9 rfl rfl)
theorem dJ2_add_3_56 : decode cJ2_add_3 56 = .ok (.aastore, 1) := dk_83 (dk_at dksJ2_add_3_2 10 rfl rfl)
theorem dJ2_add_3_57 : decode cJ2_add_3 57 = .ok (.aload_n 0, 1) := dk_42 (dk_at dksJ2_add_3_2 11 rfl rfl)
theorem dJ2_add_3_58 : decode cJ2_add_3 58 = .ok (.iload_n 3, 1) := dk_29 (dk_at dksJ2_add_3_2 12 rfl rfl)
theorem dJ2_add_3_59 : decode cJ2_add_3 59 = .ok (.iconst 1, 1) := dk_4 (dk_at dksJ2_add_3_2 13 rfl rfl)
theorem dJ2_add_3_60 : decode cJ2_add_3 60 = .ok (.iadd, 1) := dk_96 (dk_at dksJ2_add_3_2 14 rfl rfl)
theorem dJ2_add_3_61 : decode cJ2_add_3 61 = .ok (.putfield 48, 3) := dk_181 0 48 (dk_at dksJ2_add_3_2 15 rfl rfl)
theorem dJ2_add_3_64 : decode cJ2_add_3 64 = .ok (.return_, 1) := dk_177 (dk_at dksJ2_add_3_2 18 rfl rfl)
abbrev cJ2_rangeCheckForAdd : ByteArray := prog_35_method_45_code
def yJ2_rangeCheckForAdd : MethodName := ⟨RJ2, "rangeCheckForAdd", "(I)V"⟩
def dkwJ2_rangeCheckForAdd_1 : List UInt8 := [191, 177]
abbrev dktJ2_rangeCheckForAdd_1 : List UInt8 := dkwJ2_rangeCheckForAdd_1 ++ []
def dkwJ2_rangeCheckForAdd_0 : List UInt8 := [27, 42, 180, 0, 48, 163, 0, 7, 27, 156, 0, 16, 187, 0, 187, 89, 42, 27, 182, 0, 198, 183, 0, 193]
abbrev dktJ2_rangeCheckForAdd_0 : List UInt8 := dkwJ2_rangeCheckForAdd_0 ++ dktJ2_rangeCheckForAdd_1
theorem dksJ2_rangeCheckForAdd_0 : cJ2_rangeCheckForAdd.data.toList.drop 0 = dktJ2_rangeCheckForAdd_0 := by decide +kernel
theorem dksJ2_rangeCheckForAdd_1 : cJ2_rangeCheckForAdd.data.toList.drop 24 = dktJ2_rangeCheckForAdd_1 := dk_seg dksJ2_rangeCheckForAdd_0 24 rfl rfl
theorem dJ2_rangeCheckForAdd_0 : decode cJ2_rangeCheckForAdd 0 = .ok (.iload_n 1, 1) := dk_27 (dk_at dksJ2_rangeCheckForAdd_0 0 rfl rfl)
theorem dJ2_rangeCheckForAdd_1 : decode cJ2_rangeCheckForAdd 1 = .ok (.aload_n 0, 1) := dk_42 (dk_at dksJ2_rangeCheckForAdd_0 1 rfl rfl)
theorem dJ2_rangeCheckForAdd_2 : decode cJ2_rangeCheckForAdd 2 = .ok (.getfield 48, 3) := dk_180 0 48 (dk_at dksJ2_rangeCheckForAdd_0 2 rfl rfl)
theorem dJ2_rangeCheckForAdd_5 : decode cJ2_rangeCheckForAdd 5 = .ok (.if_icmp .gt 7, 3) := dk_163 0 7 (dk_at dksJ2_rangeCheckForAdd_0 5 rfl rfl)
theorem dJ2_rangeCheckForAdd_8 : decode cJ2_rangeCheckForAdd 8 = .ok (.iload_n 1, 1) := dk_27 (dk_at dksJ2_rangeCheckForAdd_0 8 rfl rfl)
theorem dJ2_rangeCheckForAdd_9 : decode cJ2_rangeCheckForAdd 9 = .ok (.ifCond .ge 16, 3) := dk_156 0 16 (dk_at dksJ2_rangeCheckForAdd_0 9 rfl rfl)
theorem dJ2_rangeCheckForAdd_12 : decode cJ2_rangeCheckForAdd 12 = .ok (.new 187, 3) := dk_187 0 187 (dk_at dksJ2_rangeCheckForAdd_0 12 rfl rfl)
theorem dJ2_rangeCheckForAdd_15 : decode cJ2_rangeCheckForAdd 15 = .ok (.dup, 1) := dk_89 (dk_at dksJ2_rangeCheckForAdd_0 15 rfl rfl)
theorem dJ2_rangeCheckForAdd_16 : decode cJ2_rangeCheckForAdd 16 = .ok (.aload_n 0, 1) := dk_42 (dk_at dksJ2_rangeCheckForAdd_0 16 rfl rfl)
theorem dJ2_rangeCheckForAdd_17 : decode cJ2_rangeCheckForAdd 17 = .ok (.iload_n 1, 1) := dk_27 (dk_at dksJ2_rangeCheckForAdd_0 17 rfl rfl)
theorem dJ2_rangeCheckForAdd_18 : decode cJ2_rangeCheckForAdd 18 = .ok (.invokevirtual 198, 3) := dk_182 0 198 (dk_at dksJ2_rangeCheckForAdd_0 18 rfl rfl)
theorem dJ2_rangeCheckForAdd_21 : decode cJ2_rangeCheckForAdd 21 = .ok (.invokespecial 193, 3) := dk_183 0 193 (dk_at dksJ2_rangeCheckForAdd_0 21 rfl rfl)
theorem dJ2_rangeCheckForAdd_24 : decode cJ2_rangeCheckForAdd 24 = .ok (.athrow, 1) := dk_191 (dk_at dksJ2_rangeCheckForAdd_1 0 rfl rfl)
theorem dJ2_rangeCheckForAdd_25 : decode cJ2_rangeCheckForAdd 25 = .ok (.return_, 1) := dk_177 (dk_at dksJ2_rangeCheckForAdd_1 1 rfl rfl)
abbrev cJ2_remove : ByteArray := prog_35_method_29_code
def yJ2_remove : MethodName := ⟨RJ2, "remove", "(I)Ljava/lang/Object;"⟩
def dkwJ2_remove_1 : List UInt8 := [45, 176]
abbrev dktJ2_remove_1 : List UInt8 := dkwJ2_remove_1 ++ []
def dkwJ2_remove_0 : List UInt8 := [27, 42, 180, 0, 48, 184, 0, 118, 87, 42, 180, 0, 9, 77, 44, 27, 50, 78, 42, 44, 27, 182, 0, 144]
abbrev dktJ2_remove_0 : List UInt8 := dkwJ2_remove_0 ++ dktJ2_remove_1
theorem dksJ2_remove_0 : cJ2_remove.data.toList.drop 0 = dktJ2_remove_0 := by decide +kernel
theorem dksJ2_remove_1 : cJ2_remove.data.toList.drop 24 = dktJ2_remove_1 := dk_seg dksJ2_remove_0 24 rfl rfl
theorem dJ2_remove_0 : decode cJ2_remove 0 = .ok (.iload_n 1, 1) := dk_27 (dk_at dksJ2_remove_0 0 rfl rfl)
theorem dJ2_remove_1 : decode cJ2_remove 1 = .ok (.aload_n 0, 1) := dk_42 (dk_at dksJ2_remove_0 1 rfl rfl)
theorem dJ2_remove_2 : decode cJ2_remove 2 = .ok (.getfield 48, 3) := dk_180 0 48 (dk_at dksJ2_remove_0 2 rfl rfl)
theorem dJ2_remove_5 : decode cJ2_remove 5 = .ok (.invokestatic 118, 3) := dk_184 0 118 (dk_at dksJ2_remove_0 5 rfl rfl)
theorem dJ2_remove_8 : decode cJ2_remove 8 = .ok (.pop, 1) := dk_87 (dk_at dksJ2_remove_0 8 rfl rfl)
theorem dJ2_remove_9 : decode cJ2_remove 9 = .ok (.aload_n 0, 1) := dk_42 (dk_at dksJ2_remove_0 9 rfl rfl)
theorem dJ2_remove_10 : decode cJ2_remove 10 = .ok (.getfield 9, 3) := dk_180 0 9 (dk_at dksJ2_remove_0 10 rfl rfl)
theorem dJ2_remove_13 : decode cJ2_remove 13 = .ok (.astore_n 2, 1) := dk_77 (dk_at dksJ2_remove_0 13 rfl rfl)
theorem dJ2_remove_14 : decode cJ2_remove 14 = .ok (.aload_n 2, 1) := dk_44 (dk_at dksJ2_remove_0 14 rfl rfl)
theorem dJ2_remove_15 : decode cJ2_remove 15 = .ok (.iload_n 1, 1) := dk_27 (dk_at dksJ2_remove_0 15 rfl rfl)
theorem dJ2_remove_16 : decode cJ2_remove 16 = .ok (.aaload, 1) := dk_50 (dk_at dksJ2_remove_0 16 rfl rfl)
theorem dJ2_remove_17 : decode cJ2_remove 17 = .ok (.astore_n 3, 1) := dk_78 (dk_at dksJ2_remove_0 17 rfl rfl)
theorem dJ2_remove_18 : decode cJ2_remove 18 = .ok (.aload_n 0, 1) := dk_42 (dk_at dksJ2_remove_0 18 rfl rfl)
theorem dJ2_remove_19 : decode cJ2_remove 19 = .ok (.aload_n 2, 1) := dk_44 (dk_at dksJ2_remove_0 19 rfl rfl)
theorem dJ2_remove_20 : decode cJ2_remove 20 = .ok (.iload_n 1, 1) := dk_27 (dk_at dksJ2_remove_0 20 rfl rfl)
theorem dJ2_remove_21 : decode cJ2_remove 21 = .ok (.invokevirtual 144, 3) := dk_182 0 144 (dk_at dksJ2_remove_0 21 rfl rfl)
theorem dJ2_remove_24 : decode cJ2_remove 24 = .ok (.aload_n 3, 1) := dk_45 (dk_at dksJ2_remove_1 0 rfl rfl)
theorem dJ2_remove_25 : decode cJ2_remove 25 = .ok (.areturn, 1) := dk_176 (dk_at dksJ2_remove_1 1 rfl rfl)
abbrev cJ2_fastRemove : ByteArray := prog_35_method_39_code
def yJ2_fastRemove : MethodName := ⟨RJ2, "fastRemove", "([Ljava/lang/Object;I)V"⟩
def dkwJ2_fastRemove_1 : List UInt8 := [4, 96, 43, 28, 29, 28, 100, 184, 0, 112, 43, 42, 29, 90, 181, 0, 48, 1, 83, 177]
abbrev dktJ2_fastRemove_1 : List UInt8 := dkwJ2_fastRemove_1 ++ []
def dkwJ2_fastRemove_0 : List UInt8 := [42, 89, 180, 0, 63, 4, 96, 181, 0, 63, 42, 180, 0, 48, 4, 100, 89, 62, 28, 164, 0, 15, 43, 28]
abbrev dktJ2_fastRemove_0 : List UInt8 := dkwJ2_fastRemove_0 ++ dktJ2_fastRemove_1
theorem dksJ2_fastRemove_0 : cJ2_fastRemove.data.toList.drop 0 = dktJ2_fastRemove_0 := by decide +kernel
theorem dksJ2_fastRemove_1 : cJ2_fastRemove.data.toList.drop 24 = dktJ2_fastRemove_1 := dk_seg dksJ2_fastRemove_0 24 rfl rfl
theorem dJ2_fastRemove_0 : decode cJ2_fastRemove 0 = .ok (.aload_n 0, 1) := dk_42 (dk_at dksJ2_fastRemove_0 0 rfl rfl)
theorem dJ2_fastRemove_1 : decode cJ2_fastRemove 1 = .ok (.dup, 1) := dk_89 (dk_at dksJ2_fastRemove_0 1 rfl rfl)
theorem dJ2_fastRemove_2 : decode cJ2_fastRemove 2 = .ok (.getfield 63, 3) := dk_180 0 63 (dk_at dksJ2_fastRemove_0 2 rfl rfl)
theorem dJ2_fastRemove_5 : decode cJ2_fastRemove 5 = .ok (.iconst 1, 1) := dk_4 (dk_at dksJ2_fastRemove_0 5 rfl rfl)
theorem dJ2_fastRemove_6 : decode cJ2_fastRemove 6 = .ok (.iadd, 1) := dk_96 (dk_at dksJ2_fastRemove_0 6 rfl rfl)
theorem dJ2_fastRemove_7 : decode cJ2_fastRemove 7 = .ok (.putfield 63, 3) := dk_181 0 63 (dk_at dksJ2_fastRemove_0 7 rfl rfl)
theorem dJ2_fastRemove_10 : decode cJ2_fastRemove 10 = .ok (.aload_n 0, 1) := dk_42 (dk_at dksJ2_fastRemove_0 10 rfl rfl)
theorem dJ2_fastRemove_11 : decode cJ2_fastRemove 11 = .ok (.getfield 48, 3) := dk_180 0 48 (dk_at dksJ2_fastRemove_0 11 rfl rfl)
theorem dJ2_fastRemove_14 : decode cJ2_fastRemove 14 = .ok (.iconst 1, 1) := dk_4 (dk_at dksJ2_fastRemove_0 14 rfl rfl)
theorem dJ2_fastRemove_15 : decode cJ2_fastRemove 15 = .ok (.isub, 1) := dk_100 (dk_at dksJ2_fastRemove_0 15 rfl rfl)
theorem dJ2_fastRemove_16 : decode cJ2_fastRemove 16 = .ok (.dup, 1) := dk_89 (dk_at dksJ2_fastRemove_0 16 rfl rfl)
theorem dJ2_fastRemove_17 : decode cJ2_fastRemove 17 = .ok (.istore_n 3, 1) := dk_62 (dk_at dksJ2_fastRemove_0 17 rfl rfl)
theorem dJ2_fastRemove_18 : decode cJ2_fastRemove 18 = .ok (.iload_n 2, 1) := dk_28 (dk_at dksJ2_fastRemove_0 18 rfl rfl)
theorem dJ2_fastRemove_19 : decode cJ2_fastRemove 19 = .ok (.if_icmp .le 15, 3) := dk_164 0 15 (dk_at dksJ2_fastRemove_0 19 rfl rfl)
theorem dJ2_fastRemove_22 : decode cJ2_fastRemove 22 = .ok (.aload_n 1, 1) := dk_43 (dk_at dksJ2_fastRemove_0 22 rfl rfl)
theorem dJ2_fastRemove_23 : decode cJ2_fastRemove 23 = .ok (.iload_n 2, 1) := dk_28 (dk_at dksJ2_fastRemove_0 23 rfl rfl)
theorem dJ2_fastRemove_24 : decode cJ2_fastRemove 24 = .ok (.iconst 1, 1) := dk_4 (dk_at dksJ2_fastRemove_1 0 rfl rfl)
theorem dJ2_fastRemove_25 : decode cJ2_fastRemove 25 = .ok (.iadd, 1) := dk_96 (dk_at dksJ2_fastRemove_1 1 rfl rfl)
theorem dJ2_fastRemove_26 : decode cJ2_fastRemove 26 = .ok (.aload_n 1, 1) := dk_43 (dk_at dksJ2_fastRemove_1 2 rfl rfl)
theorem dJ2_fastRemove_27 : decode cJ2_fastRemove 27 = .ok (.iload_n 2, 1) := dk_28 (dk_at dksJ2_fastRemove_1 3 rfl rfl)
theorem dJ2_fastRemove_28 : decode cJ2_fastRemove 28 = .ok (.iload_n 3, 1) := dk_29 (dk_at dksJ2_fastRemove_1 4 rfl rfl)
theorem dJ2_fastRemove_29 : decode cJ2_fastRemove 29 = .ok (.iload_n 2, 1) := dk_28 (dk_at dksJ2_fastRemove_1 5 rfl rfl)
theorem dJ2_fastRemove_30 : decode cJ2_fastRemove 30 = .ok (.isub, 1) := dk_100 (dk_at dksJ2_fastRemove_1 6 rfl rfl)
theorem dJ2_fastRemove_31 : decode cJ2_fastRemove 31 = .ok (.invokestatic 112, 3) := dk_184 0 112 (dk_at dksJ2_fastRemove_1 7 rfl rfl)
theorem dJ2_fastRemove_34 : decode cJ2_fastRemove 34 = .ok (.aload_n 1, 1) := dk_43 (dk_at dksJ2_fastRemove_1 10 rfl rfl)
theorem dJ2_fastRemove_35 : decode cJ2_fastRemove 35 = .ok (.aload_n 0, 1) := dk_42 (dk_at dksJ2_fastRemove_1 11 rfl rfl)
theorem dJ2_fastRemove_36 : decode cJ2_fastRemove 36 = .ok (.iload_n 3, 1) := dk_29 (dk_at dksJ2_fastRemove_1 12 rfl rfl)
theorem dJ2_fastRemove_37 : decode cJ2_fastRemove 37 = .ok (.dup_x1, 1) := dk_90 (dk_at dksJ2_fastRemove_1 13 rfl rfl)
theorem dJ2_fastRemove_38 : decode cJ2_fastRemove 38 = .ok (.putfield 48, 3) := dk_181 0 48 (dk_at dksJ2_fastRemove_1 14 rfl rfl)
theorem dJ2_fastRemove_41 : decode cJ2_fastRemove 41 = .ok (.aconst_null, 1) := dk_1 (dk_at dksJ2_fastRemove_1 17 rfl rfl)
theorem dJ2_fastRemove_42 : decode cJ2_fastRemove 42 = .ok (.aastore, 1) := dk_83 (dk_at dksJ2_fastRemove_1 18 rfl rfl)
theorem dJ2_fastRemove_43 : decode cJ2_fastRemove 43 = .ok (.return_, 1) := dk_177 (dk_at dksJ2_fastRemove_1 19 rfl rfl)
abbrev cJ2_remove_2 : ByteArray := prog_35_method_38_code
def yJ2_remove_2 : MethodName := ⟨RJ2, "remove", "(Ljava/lang/Object;)Z"⟩
def dkwJ2_remove_2_3 : List UInt8 := [182, 0, 144, 4, 172]
abbrev dktJ2_remove_2_3 : List UInt8 := dkwJ2_remove_2_3 ++ []
def dkwJ2_remove_2_2 : List UInt8 := [21, 4, 50, 182, 0, 93, 153, 0, 6, 167, 0, 11, 132, 4, 1, 167, 255, 233, 3, 172, 42, 44, 21, 4]
abbrev dktJ2_remove_2_2 : List UInt8 := dkwJ2_remove_2_2 ++ dktJ2_remove_2_3
def dkwJ2_remove_2_1 : List UInt8 := [21, 4, 50, 199, 0, 6, 167, 0, 37, 132, 4, 1, 167, 255, 237, 21, 4, 29, 162, 0, 23, 43, 44]
abbrev dktJ2_remove_2_1 : List UInt8 := dkwJ2_remove_2_1 ++ dktJ2_remove_2_2
def dkwJ2_remove_2_0 : List UInt8 := [42, 180, 0, 9, 77, 42, 180, 0, 48, 62, 3, 54, 4, 43, 199, 0, 25, 21, 4, 29, 162, 0, 45, 44]
abbrev dktJ2_remove_2_0 : List UInt8 := dkwJ2_remove_2_0 ++ dktJ2_remove_2_1
theorem dksJ2_remove_2_0 : cJ2_remove_2.data.toList.drop 0 = dktJ2_remove_2_0 := by decide +kernel
theorem dksJ2_remove_2_1 : cJ2_remove_2.data.toList.drop 24 = dktJ2_remove_2_1 := dk_seg dksJ2_remove_2_0 24 rfl rfl
theorem dksJ2_remove_2_2 : cJ2_remove_2.data.toList.drop 47 = dktJ2_remove_2_2 := dk_seg dksJ2_remove_2_1 23 rfl rfl
theorem dksJ2_remove_2_3 : cJ2_remove_2.data.toList.drop 71 = dktJ2_remove_2_3 := dk_seg dksJ2_remove_2_2 24 rfl rfl
theorem dJ2_remove_2_0 : decode cJ2_remove_2 0 = .ok (.aload_n 0, 1) := dk_42 (dk_at dksJ2_remove_2_0 0 rfl rfl)
theorem dJ2_remove_2_1 : decode cJ2_remove_2 1 = .ok (.getfield 9, 3) := dk_180 0 9 (dk_at dksJ2_remove_2_0 1 rfl rfl)
theorem dJ2_remove_2_4 : decode cJ2_remove_2 4 = .ok (.astore_n 2, 1) := dk_77 (dk_at dksJ2_remove_2_0 4 rfl rfl)
theorem dJ2_remove_2_5 : decode cJ2_remove_2 5 = .ok (.aload_n 0, 1) := dk_42 (dk_at dksJ2_remove_2_0 5 rfl rfl)
theorem dJ2_remove_2_6 : decode cJ2_remove_2 6 = .ok (.getfield 48, 3) := dk_180 0 48 (dk_at dksJ2_remove_2_0 6 rfl rfl)
theorem dJ2_remove_2_9 : decode cJ2_remove_2 9 = .ok (.istore_n 3, 1) := dk_62 (dk_at dksJ2_remove_2_0 9 rfl rfl)
theorem dJ2_remove_2_10 : decode cJ2_remove_2 10 = .ok (.iconst 0, 1) := dk_3 (dk_at dksJ2_remove_2_0 10 rfl rfl)
theorem dJ2_remove_2_11 : decode cJ2_remove_2 11 = .ok (.istore 4, 2) := dk_54 4 (dk_at dksJ2_remove_2_0 11 rfl rfl)
theorem dJ2_remove_2_13 : decode cJ2_remove_2 13 = .ok (.aload_n 1, 1) := dk_43 (dk_at dksJ2_remove_2_0 13 rfl rfl)
theorem dJ2_remove_2_14 : decode cJ2_remove_2 14 = .ok (.ifnonnull 25, 3) := dk_199 0 25 (dk_at dksJ2_remove_2_0 14 rfl rfl)
theorem dJ2_remove_2_17 : decode cJ2_remove_2 17 = .ok (.iload 4, 2) := dk_21 4 (dk_at dksJ2_remove_2_0 17 rfl rfl)
theorem dJ2_remove_2_19 : decode cJ2_remove_2 19 = .ok (.iload_n 3, 1) := dk_29 (dk_at dksJ2_remove_2_0 19 rfl rfl)
theorem dJ2_remove_2_20 : decode cJ2_remove_2 20 = .ok (.if_icmp .ge 45, 3) := dk_162 0 45 (dk_at dksJ2_remove_2_0 20 rfl rfl)
theorem dJ2_remove_2_23 : decode cJ2_remove_2 23 = .ok (.aload_n 2, 1) := dk_44 (dk_at dksJ2_remove_2_0 23 rfl rfl)
theorem dJ2_remove_2_24 : decode cJ2_remove_2 24 = .ok (.iload 4, 2) := dk_21 4 (dk_at dksJ2_remove_2_1 0 rfl rfl)
theorem dJ2_remove_2_26 : decode cJ2_remove_2 26 = .ok (.aaload, 1) := dk_50 (dk_at dksJ2_remove_2_1 2 rfl rfl)
theorem dJ2_remove_2_27 : decode cJ2_remove_2 27 = .ok (.ifnonnull 6, 3) := dk_199 0 6 (dk_at dksJ2_remove_2_1 3 rfl rfl)
theorem dJ2_remove_2_30 : decode cJ2_remove_2 30 = .ok (.goto 37, 3) := dk_167 0 37 (dk_at dksJ2_remove_2_1 6 rfl rfl)
theorem dJ2_remove_2_33 : decode cJ2_remove_2 33 = .ok (.iinc 4 1, 3) := dk_132 4 1 (dk_at dksJ2_remove_2_1 9 rfl rfl)
theorem dJ2_remove_2_36 : decode cJ2_remove_2 36 = .ok (.goto (-19), 3) := dk_167 255 237 (dk_at dksJ2_remove_2_1 12 rfl rfl)
theorem dJ2_remove_2_39 : decode cJ2_remove_2 39 = .ok (.iload 4, 2) := dk_21 4 (dk_at dksJ2_remove_2_1 15 rfl rfl)
theorem dJ2_remove_2_41 : decode cJ2_remove_2 41 = .ok (.iload_n 3, 1) := dk_29 (dk_at dksJ2_remove_2_1 17 rfl rfl)
theorem dJ2_remove_2_42 : decode cJ2_remove_2 42 = .ok (.if_icmp .ge 23, 3) := dk_162 0 23 (dk_at dksJ2_remove_2_1 18 rfl rfl)
theorem dJ2_remove_2_45 : decode cJ2_remove_2 45 = .ok (.aload_n 1, 1) := dk_43 (dk_at dksJ2_remove_2_1 21 rfl rfl)
theorem dJ2_remove_2_46 : decode cJ2_remove_2 46 = .ok (.aload_n 2, 1) := dk_44 (dk_at dksJ2_remove_2_1 22 rfl rfl)
theorem dJ2_remove_2_47 : decode cJ2_remove_2 47 = .ok (.iload 4, 2) := dk_21 4 (dk_at dksJ2_remove_2_2 0 rfl rfl)
theorem dJ2_remove_2_49 : decode cJ2_remove_2 49 = .ok (.aaload, 1) := dk_50 (dk_at dksJ2_remove_2_2 2 rfl rfl)
theorem dJ2_remove_2_50 : decode cJ2_remove_2 50 = .ok (.invokevirtual 93, 3) := dk_182 0 93 (dk_at dksJ2_remove_2_2 3 rfl rfl)
theorem dJ2_remove_2_53 : decode cJ2_remove_2 53 = .ok (.ifCond .eq 6, 3) := dk_153 0 6 (dk_at dksJ2_remove_2_2 6 rfl rfl)
theorem dJ2_remove_2_56 : decode cJ2_remove_2 56 = .ok (.goto 11, 3) := dk_167 0 11 (dk_at dksJ2_remove_2_2 9 rfl rfl)
theorem dJ2_remove_2_59 : decode cJ2_remove_2 59 = .ok (.iinc 4 1, 3) := dk_132 4 1 (dk_at dksJ2_remove_2_2 12 rfl rfl)
theorem dJ2_remove_2_62 : decode cJ2_remove_2 62 = .ok (.goto (-23), 3) := dk_167 255 233 (dk_at dksJ2_remove_2_2 15 rfl rfl)
theorem dJ2_remove_2_65 : decode cJ2_remove_2 65 = .ok (.iconst 0, 1) := dk_3 (dk_at dksJ2_remove_2_2 18 rfl rfl)
theorem dJ2_remove_2_66 : decode cJ2_remove_2 66 = .ok (.ireturn, 1) := dk_172 (dk_at dksJ2_remove_2_2 19 rfl rfl)
theorem dJ2_remove_2_67 : decode cJ2_remove_2 67 = .ok (.aload_n 0, 1) := dk_42 (dk_at dksJ2_remove_2_2 20 rfl rfl)
theorem dJ2_remove_2_68 : decode cJ2_remove_2 68 = .ok (.aload_n 2, 1) := dk_44 (dk_at dksJ2_remove_2_2 21 rfl rfl)
theorem dJ2_remove_2_69 : decode cJ2_remove_2 69 = .ok (.iload 4, 2) := dk_21 4 (dk_at dksJ2_remove_2_2 22 rfl rfl)
theorem dJ2_remove_2_71 : decode cJ2_remove_2 71 = .ok (.invokevirtual 144, 3) := dk_182 0 144 (dk_at dksJ2_remove_2_3 0 rfl rfl)
theorem dJ2_remove_2_74 : decode cJ2_remove_2 74 = .ok (.iconst 1, 1) := dk_4 (dk_at dksJ2_remove_2_3 3 rfl rfl)
theorem dJ2_remove_2_75 : decode cJ2_remove_2 75 = .ok (.ireturn, 1) := dk_172 (dk_at dksJ2_remove_2_3 4 rfl rfl)
abbrev cJ2_indexOf : ByteArray := prog_35_method_11_code
def yJ2_indexOf : MethodName := ⟨RJ2, "indexOf", "(Ljava/lang/Object;)I"⟩
def dkwJ2_indexOf_0 : List UInt8 := [42, 43, 3, 42, 180, 0, 48, 182, 0, 89, 172]
abbrev dktJ2_indexOf_0 : List UInt8 := dkwJ2_indexOf_0 ++ []
theorem dksJ2_indexOf_0 : cJ2_indexOf.data.toList.drop 0 = dktJ2_indexOf_0 := by decide +kernel
theorem dJ2_indexOf_0 : decode cJ2_indexOf 0 = .ok (.aload_n 0, 1) := dk_42 (dk_at dksJ2_indexOf_0 0 rfl rfl)
theorem dJ2_indexOf_1 : decode cJ2_indexOf 1 = .ok (.aload_n 1, 1) := dk_43 (dk_at dksJ2_indexOf_0 1 rfl rfl)
theorem dJ2_indexOf_2 : decode cJ2_indexOf 2 = .ok (.iconst 0, 1) := dk_3 (dk_at dksJ2_indexOf_0 2 rfl rfl)
theorem dJ2_indexOf_3 : decode cJ2_indexOf 3 = .ok (.aload_n 0, 1) := dk_42 (dk_at dksJ2_indexOf_0 3 rfl rfl)
theorem dJ2_indexOf_4 : decode cJ2_indexOf 4 = .ok (.getfield 48, 3) := dk_180 0 48 (dk_at dksJ2_indexOf_0 4 rfl rfl)
theorem dJ2_indexOf_7 : decode cJ2_indexOf 7 = .ok (.invokevirtual 89, 3) := dk_182 0 89 (dk_at dksJ2_indexOf_0 7 rfl rfl)
theorem dJ2_indexOf_10 : decode cJ2_indexOf 10 = .ok (.ireturn, 1) := dk_172 (dk_at dksJ2_indexOf_0 10 rfl rfl)
abbrev cJ2_indexOfRange : ByteArray := prog_35_method_12_code
def yJ2_indexOfRange : MethodName := ⟨RJ2, "indexOfRange", "(Ljava/lang/Object;II)I"⟩
def dkwJ2_indexOfRange_2 : List UInt8 := [43, 25, 4, 21, 5, 50, 182, 0, 93, 153, 0, 6, 21, 5, 172, 132, 5, 1, 167, 255, 232, 2, 172]
abbrev dktJ2_indexOfRange_2 : List UInt8 := dkwJ2_indexOfRange_2 ++ []
def dkwJ2_indexOfRange_1 : List UInt8 := [199, 0, 6, 21, 5, 172, 132, 5, 1, 167, 255, 236, 167, 0, 33, 28, 54, 5, 21, 5, 29, 162, 0, 24]
abbrev dktJ2_indexOfRange_1 : List UInt8 := dkwJ2_indexOfRange_1 ++ dktJ2_indexOfRange_2
def dkwJ2_indexOfRange_0 : List UInt8 := [42, 180, 0, 9, 58, 4, 43, 199, 0, 32, 28, 54, 5, 21, 5, 29, 162, 0, 20, 25, 4, 21, 5, 50]
abbrev dktJ2_indexOfRange_0 : List UInt8 := dkwJ2_indexOfRange_0 ++ dktJ2_indexOfRange_1
theorem dksJ2_indexOfRange_0 : cJ2_indexOfRange.data.toList.drop 0 = dktJ2_indexOfRange_0 := by decide +kernel
theorem dksJ2_indexOfRange_1 : cJ2_indexOfRange.data.toList.drop 24 = dktJ2_indexOfRange_1 := dk_seg dksJ2_indexOfRange_0 24 rfl rfl
theorem dksJ2_indexOfRange_2 : cJ2_indexOfRange.data.toList.drop 48 = dktJ2_indexOfRange_2 := dk_seg dksJ2_indexOfRange_1 24 rfl rfl
theorem dJ2_indexOfRange_0 : decode cJ2_indexOfRange 0 = .ok (.aload_n 0, 1) := dk_42 (dk_at dksJ2_indexOfRange_0 0 rfl rfl)
theorem dJ2_indexOfRange_1 : decode cJ2_indexOfRange 1 = .ok (.getfield 9, 3) := dk_180 0 9 (dk_at dksJ2_indexOfRange_0 1 rfl rfl)
theorem dJ2_indexOfRange_4 : decode cJ2_indexOfRange 4 = .ok (.astore 4, 2) := dk_58 4 (dk_at dksJ2_indexOfRange_0 4 rfl rfl)
theorem dJ2_indexOfRange_6 : decode cJ2_indexOfRange 6 = .ok (.aload_n 1, 1) := dk_43 (dk_at dksJ2_indexOfRange_0 6 rfl rfl)
theorem dJ2_indexOfRange_7 : decode cJ2_indexOfRange 7 = .ok (.ifnonnull 32, 3) := dk_199 0 32 (dk_at dksJ2_indexOfRange_0 7 rfl rfl)
theorem dJ2_indexOfRange_10 : decode cJ2_indexOfRange 10 = .ok (.iload_n 2, 1) := dk_28 (dk_at dksJ2_indexOfRange_0 10 rfl rfl)
theorem dJ2_indexOfRange_11 : decode cJ2_indexOfRange 11 = .ok (.istore 5, 2) := dk_54 5 (dk_at dksJ2_indexOfRange_0 11 rfl rfl)
theorem dJ2_indexOfRange_13 : decode cJ2_indexOfRange 13 = .ok (.iload 5, 2) := dk_21 5 (dk_at dksJ2_indexOfRange_0 13 rfl rfl)
theorem dJ2_indexOfRange_15 : decode cJ2_indexOfRange 15 = .ok (.iload_n 3, 1) := dk_29 (dk_at dksJ2_indexOfRange_0 15 rfl rfl)
theorem dJ2_indexOfRange_16 : decode cJ2_indexOfRange 16 = .ok (.if_icmp .ge 20, 3) := dk_162 0 20 (dk_at dksJ2_indexOfRange_0 16 rfl rfl)
theorem dJ2_indexOfRange_19 : decode cJ2_indexOfRange 19 = .ok (.aload 4, 2) := dk_25 4 (dk_at dksJ2_indexOfRange_0 19 rfl rfl)
theorem dJ2_indexOfRange_21 : decode cJ2_indexOfRange 21 = .ok (.iload 5, 2) := dk_21 5 (dk_at dksJ2_indexOfRange_0 21 rfl rfl)
theorem dJ2_indexOfRange_23 : decode cJ2_indexOfRange 23 = .ok (.aaload, 1) := dk_50 (dk_at dksJ2_indexOfRange_0 23 rfl rfl)
theorem dJ2_indexOfRange_24 : decode cJ2_indexOfRange 24 = .ok (.ifnonnull 6, 3) := dk_199 0 6 (dk_at dksJ2_indexOfRange_1 0 rfl rfl)
theorem dJ2_indexOfRange_27 : decode cJ2_indexOfRange 27 = .ok (.iload 5, 2) := dk_21 5 (dk_at dksJ2_indexOfRange_1 3 rfl rfl)
theorem dJ2_indexOfRange_29 : decode cJ2_indexOfRange 29 = .ok (.ireturn, 1) := dk_172 (dk_at dksJ2_indexOfRange_1 5 rfl rfl)
theorem dJ2_indexOfRange_30 : decode cJ2_indexOfRange 30 = .ok (.iinc 5 1, 3) := dk_132 5 1 (dk_at dksJ2_indexOfRange_1 6 rfl rfl)
theorem dJ2_indexOfRange_33 : decode cJ2_indexOfRange 33 = .ok (.goto (-20), 3) := dk_167 255 236 (dk_at dksJ2_indexOfRange_1 9 rfl rfl)
theorem dJ2_indexOfRange_36 : decode cJ2_indexOfRange 36 = .ok (.goto 33, 3) := dk_167 0 33 (dk_at dksJ2_indexOfRange_1 12 rfl rfl)
theorem dJ2_indexOfRange_39 : decode cJ2_indexOfRange 39 = .ok (.iload_n 2, 1) := dk_28 (dk_at dksJ2_indexOfRange_1 15 rfl rfl)
theorem dJ2_indexOfRange_40 : decode cJ2_indexOfRange 40 = .ok (.istore 5, 2) := dk_54 5 (dk_at dksJ2_indexOfRange_1 16 rfl rfl)
theorem dJ2_indexOfRange_42 : decode cJ2_indexOfRange 42 = .ok (.iload 5, 2) := dk_21 5 (dk_at dksJ2_indexOfRange_1 18 rfl rfl)
theorem dJ2_indexOfRange_44 : decode cJ2_indexOfRange 44 = .ok (.iload_n 3, 1) := dk_29 (dk_at dksJ2_indexOfRange_1 20 rfl rfl)
theorem dJ2_indexOfRange_45 : decode cJ2_indexOfRange 45 = .ok (.if_icmp .ge 24, 3) := dk_162 0 24 (dk_at dksJ2_indexOfRange_1 21 rfl rfl)
theorem dJ2_indexOfRange_48 : decode cJ2_indexOfRange 48 = .ok (.aload_n 1, 1) := dk_43 (dk_at dksJ2_indexOfRange_2 0 rfl rfl)
theorem dJ2_indexOfRange_49 : decode cJ2_indexOfRange 49 = .ok (.aload 4, 2) := dk_25 4 (dk_at dksJ2_indexOfRange_2 1 rfl rfl)
theorem dJ2_indexOfRange_51 : decode cJ2_indexOfRange 51 = .ok (.iload 5, 2) := dk_21 5 (dk_at dksJ2_indexOfRange_2 3 rfl rfl)
theorem dJ2_indexOfRange_53 : decode cJ2_indexOfRange 53 = .ok (.aaload, 1) := dk_50 (dk_at dksJ2_indexOfRange_2 5 rfl rfl)
theorem dJ2_indexOfRange_54 : decode cJ2_indexOfRange 54 = .ok (.invokevirtual 93, 3) := dk_182 0 93 (dk_at dksJ2_indexOfRange_2 6 rfl rfl)
theorem dJ2_indexOfRange_57 : decode cJ2_indexOfRange 57 = .ok (.ifCond .eq 6, 3) := dk_153 0 6 (dk_at dksJ2_indexOfRange_2 9 rfl rfl)
theorem dJ2_indexOfRange_60 : decode cJ2_indexOfRange 60 = .ok (.iload 5, 2) := dk_21 5 (dk_at dksJ2_indexOfRange_2 12 rfl rfl)
theorem dJ2_indexOfRange_62 : decode cJ2_indexOfRange 62 = .ok (.ireturn, 1) := dk_172 (dk_at dksJ2_indexOfRange_2 14 rfl rfl)
theorem dJ2_indexOfRange_63 : decode cJ2_indexOfRange 63 = .ok (.iinc 5 1, 3) := dk_132 5 1 (dk_at dksJ2_indexOfRange_2 15 rfl rfl)
theorem dJ2_indexOfRange_66 : decode cJ2_indexOfRange 66 = .ok (.goto (-24), 3) := dk_167 255 232 (dk_at dksJ2_indexOfRange_2 18 rfl rfl)
theorem dJ2_indexOfRange_69 : decode cJ2_indexOfRange 69 = .ok (.iconst (-1), 1) := dk_2 (dk_at dksJ2_indexOfRange_2 21 rfl rfl)
theorem dJ2_indexOfRange_70 : decode cJ2_indexOfRange 70 = .ok (.ireturn, 1) := dk_172 (dk_at dksJ2_indexOfRange_2 22 rfl rfl)
theorem q35 : (Jvm.Cond.initialized "java/util/ArrayList") ∈ lw_all := lw_g (lw_at lw_m1 5 rfl) rfl
theorem q94 : (Jvm.Cond.instantiable "java/util/ArrayList" (3 : Nat)) ∈ lw_all := lw_g (lw_at lw_m1 64 rfl) rfl
theorem q96 : (Jvm.Cond.instanceMethod ({ cls := "java/util/ArrayList", name := "<init>", desc := "()V" } : Jvm.MethodName)) ∈ lw_all := lw_g (lw_at lw_m1 66 rfl) rfl
theorem q97 : (Jvm.Cond.code ({ cls := "java/util/ArrayList", name := "<init>", desc := "()V" } : Jvm.MethodName) prog_35_method_2_code (1 : Nat) (Option.none : Option Jvm.ClassFile.FieldType)) ∈ lw_all := lw_g (lw_at lw_m1 67 rfl) rfl
theorem q98 : (Jvm.Cond.methodLink "java/util/ArrayList" (1 : Nat) ({ cls := "java/util/AbstractList", name := "<init>", desc := "()V" } : Jvm.MethodName)) ∈ lw_all := lw_g (lw_at lw_m1 68 rfl) rfl
theorem q105 : (Jvm.Cond.fieldLink "java/util/ArrayList" (39 : Nat) "java/util/ArrayList" "DEFAULTCAPACITY_EMPTY_ELEMENTDATA" "[Ljava/lang/Object;") ∈ lw_all := lw_g (lw_at lw_m1 75 rfl) rfl
theorem q106 : (Jvm.Cond.laysStatic "java/util/ArrayList" "DEFAULTCAPACITY_EMPTY_ELEMENTDATA" "[Ljava/lang/Object;") ∈ lw_tbl := lw_at lw_m1 76 rfl
theorem q107 : (Jvm.Cond.fieldLink "java/util/ArrayList" (9 : Nat) "java/util/ArrayList" "elementData" "[Ljava/lang/Object;") ∈ lw_all := lw_g (lw_at lw_m1 77 rfl) rfl
theorem q110 : (Jvm.Cond.fieldLink "java/util/ArrayList" (48 : Nat) "java/util/ArrayList" "size" "I") ∈ lw_all := lw_g (lw_at lw_m1 80 rfl) rfl
theorem q113 : (Jvm.Cond.sameField "java/util/ArrayList" "java/util/AbstractList" "modCount" "I") ∈ lw_all := lw_g (lw_at lw_m1 83 rfl) rfl
theorem q114 : (Jvm.Cond.fieldLink "java/util/ArrayList" (63 : Nat) "java/util/ArrayList" "modCount" "I") ∈ lw_all := lw_g (lw_at lw_m1 84 rfl) rfl
theorem q115 : (Jvm.Cond.lays "java/util/ArrayList" "java/util/ArrayList" "elementData" "[Ljava/lang/Object;") ∈ lw_all := lw_g (lw_at lw_m1 85 rfl) rfl
theorem q116 : (Jvm.Cond.soleField "java/util/ArrayList" "elementData") ∈ lw_all := lw_g (lw_at lw_m1 86 rfl) rfl
theorem q117 : (Jvm.Cond.lays "java/util/ArrayList" "java/util/ArrayList" "size" "I") ∈ lw_all := lw_g (lw_at lw_m1 87 rfl) rfl
theorem q118 : (Jvm.Cond.soleField "java/util/ArrayList" "size") ∈ lw_all := lw_g (lw_at lw_m1 88 rfl) rfl
theorem q119 : (Jvm.Cond.lays "java/util/ArrayList" "java/util/AbstractList" "modCount" "I") ∈ lw_all := lw_g (lw_at lw_m1 89 rfl) rfl
theorem q121 : (Jvm.Cond.superclass "java/util/ArrayList" "java/util/AbstractList") ∈ lw_all := lw_g (lw_at lw_m1 91 rfl) rfl
theorem q307 : (Jvm.Cond.castable "java/util/ArrayList" "java/util/List") ∈ lw_tbl := lw_at lw_m2 37 rfl
theorem q308 : (Jvm.Cond.selects "java/util/ArrayList" ({ cls := "java/util/List", name := "size", desc := "()I" } : Jvm.MethodName) ({ cls := "java/util/ArrayList", name := "size", desc := "()I" } : Jvm.MethodName)) ∈ lw_all := lw_g (lw_at lw_m2 38 rfl) rfl
theorem q309 : (Jvm.Cond.unhidden "java/util/ArrayList" "size" "()I") ∈ lw_tbl := lw_at lw_m2 39 rfl
theorem q310 : (Jvm.Cond.instanceMethod ({ cls := "java/util/ArrayList", name := "size", desc := "()I" } : Jvm.MethodName)) ∈ lw_all := lw_g (lw_at lw_m2 40 rfl) rfl
theorem q311 : (Jvm.Cond.publicMethod ({ cls := "java/util/ArrayList", name := "size", desc := "()I" } : Jvm.MethodName)) ∈ lw_tbl := lw_at lw_m2 41 rfl
theorem q312 : (Jvm.Cond.code ({ cls := "java/util/ArrayList", name := "size", desc := "()I" } : Jvm.MethodName) prog_35_method_8_code (1 : Nat) (Option.some Jvm.ClassFile.FieldType.int)) ∈ lw_all := lw_g (lw_at lw_m2 42 rfl) rfl
theorem q346 : (Jvm.Cond.selects "java/util/ArrayList" ({ cls := "java/util/List", name := "iterator", desc := "()Ljava/util/Iterator;" } : Jvm.MethodName) ({ cls := "java/util/ArrayList", name := "iterator", desc := "()Ljava/util/Iterator;" } : Jvm.MethodName)) ∈ lw_all := lw_g (lw_at lw_m2 76 rfl) rfl
theorem q347 : (Jvm.Cond.unhidden "java/util/ArrayList" "iterator" "()Ljava/util/Iterator;") ∈ lw_tbl := lw_at lw_m2 77 rfl
theorem q348 : (Jvm.Cond.instanceMethod ({ cls := "java/util/ArrayList", name := "iterator", desc := "()Ljava/util/Iterator;" } : Jvm.MethodName)) ∈ lw_all := lw_g (lw_at lw_m2 78 rfl) rfl
theorem q349 : (Jvm.Cond.publicMethod ({ cls := "java/util/ArrayList", name := "iterator", desc := "()Ljava/util/Iterator;" } : Jvm.MethodName)) ∈ lw_tbl := lw_at lw_m2 79 rfl
theorem q350 : (Jvm.Cond.code ({ cls := "java/util/ArrayList", name := "iterator", desc := "()Ljava/util/Iterator;" } : Jvm.MethodName) prog_35_method_55_code (1 : Nat) (Option.some (Jvm.ClassFile.FieldType.object "java/util/Iterator"))) ∈ lw_all := lw_g (lw_at lw_m2 80 rfl) rfl
theorem q351 : (Jvm.Cond.classLink "java/util/ArrayList" (267 : Nat) "java/util/ArrayList$Itr") ∈ lw_all := lw_g (lw_at lw_m2 81 rfl) rfl
theorem q353 : (Jvm.Cond.methodLink "java/util/ArrayList" (269 : Nat) ({ cls := "java/util/ArrayList$Itr", name := "<init>", desc := "(Ljava/util/ArrayList;)V" } : Jvm.MethodName)) ∈ lw_all := lw_g (lw_at lw_m2 83 rfl) rfl
theorem q500 : (Jvm.Cond.selects "java/util/ArrayList" ({ cls := "java/util/List", name := "add", desc := "(Ljava/lang/Object;)Z" } : Jvm.MethodName) ({ cls := "java/util/ArrayList", name := "add", desc := "(Ljava/lang/Object;)Z" } : Jvm.MethodName)) ∈ lw_all := lw_g (lw_at lw_m2 230 rfl) rfl
theorem q501 : (Jvm.Cond.unhidden "java/util/ArrayList" "add" "(Ljava/lang/Object;)Z") ∈ lw_tbl := lw_at lw_m2 231 rfl
theorem q502 : (Jvm.Cond.instanceMethod ({ cls := "java/util/ArrayList", name := "add", desc := "(Ljava/lang/Object;)Z" } : Jvm.MethodName)) ∈ lw_all := lw_g (lw_at lw_m2 232 rfl) rfl
theorem q503 : (Jvm.Cond.publicMethod ({ cls := "java/util/ArrayList", name := "add", desc := "(Ljava/lang/Object;)Z" } : Jvm.MethodName)) ∈ lw_tbl := lw_at lw_m2 233 rfl
theorem q504 : (Jvm.Cond.code ({ cls := "java/util/ArrayList", name := "add", desc := "(Ljava/lang/Object;)Z" } : Jvm.MethodName) prog_35_method_25_code (2 : Nat) (Option.some Jvm.ClassFile.FieldType.boolean)) ∈ lw_all := lw_g (lw_at lw_m2 234 rfl) rfl
theorem q505 : (Jvm.Cond.methodLink "java/util/ArrayList" (131 : Nat) ({ cls := "java/util/ArrayList", name := "add", desc := "(Ljava/lang/Object;[Ljava/lang/Object;I)V" } : Jvm.MethodName)) ∈ lw_all := lw_g (lw_at lw_m2 235 rfl) rfl
theorem q506 : (Jvm.Cond.privateMethod ({ cls := "java/util/ArrayList", name := "add", desc := "(Ljava/lang/Object;[Ljava/lang/Object;I)V" } : Jvm.MethodName)) ∈ lw_tbl := lw_at lw_m2 236 rfl
theorem q507 : (Jvm.Cond.instanceMethod ({ cls := "java/util/ArrayList", name := "add", desc := "(Ljava/lang/Object;[Ljava/lang/Object;I)V" } : Jvm.MethodName)) ∈ lw_all := lw_g (lw_at lw_m2 237 rfl) rfl
theorem q508 : (Jvm.Cond.code ({ cls := "java/util/ArrayList", name := "add", desc := "(Ljava/lang/Object;[Ljava/lang/Object;I)V" } : Jvm.MethodName) prog_35_method_24_code (4 : Nat) (Option.none : Option Jvm.ClassFile.FieldType)) ∈ lw_all := lw_g (lw_at lw_m2 238 rfl) rfl
theorem q509 : (Jvm.Cond.methodLink "java/util/ArrayList" (129 : Nat) ({ cls := "java/util/ArrayList", name := "grow", desc := "()[Ljava/lang/Object;" } : Jvm.MethodName)) ∈ lw_all := lw_g (lw_at lw_m2 239 rfl) rfl
theorem q510 : (Jvm.Cond.privateMethod ({ cls := "java/util/ArrayList", name := "grow", desc := "()[Ljava/lang/Object;" } : Jvm.MethodName)) ∈ lw_tbl := lw_at lw_m3 0 rfl
theorem q511 : (Jvm.Cond.instanceMethod ({ cls := "java/util/ArrayList", name := "grow", desc := "()[Ljava/lang/Object;" } : Jvm.MethodName)) ∈ lw_all := lw_g (lw_at lw_m3 1 rfl) rfl
theorem q512 : (Jvm.Cond.code ({ cls := "java/util/ArrayList", name := "grow", desc := "()[Ljava/lang/Object;" } : Jvm.MethodName) prog_35_method_7_code (1 : Nat) (Option.some (Jvm.ClassFile.FieldType.array (Jvm.ClassFile.FieldType.object "java/lang/Object")))) ∈ lw_all := lw_g (lw_at lw_m3 2 rfl) rfl
theorem q513 : (Jvm.Cond.methodLink "java/util/ArrayList" (69 : Nat) ({ cls := "java/util/ArrayList", name := "grow", desc := "(I)[Ljava/lang/Object;" } : Jvm.MethodName)) ∈ lw_all := lw_g (lw_at lw_m3 3 rfl) rfl
theorem q514 : (Jvm.Cond.privateMethod ({ cls := "java/util/ArrayList", name := "grow", desc := "(I)[Ljava/lang/Object;" } : Jvm.MethodName)) ∈ lw_tbl := lw_at lw_m3 4 rfl
theorem q515 : (Jvm.Cond.instanceMethod ({ cls := "java/util/ArrayList", name := "grow", desc := "(I)[Ljava/lang/Object;" } : Jvm.MethodName)) ∈ lw_all := lw_g (lw_at lw_m3 5 rfl) rfl
theorem q516 : (Jvm.Cond.code ({ cls := "java/util/ArrayList", name := "grow", desc := "(I)[Ljava/lang/Object;" } : Jvm.MethodName) prog_35_method_6_code (4 : Nat) (Option.some (Jvm.ClassFile.FieldType.array (Jvm.ClassFile.FieldType.object "java/lang/Object")))) ∈ lw_all := lw_g (lw_at lw_m3 6 rfl) rfl
theorem q517 : (Jvm.Cond.methodLink "java/util/ArrayList" (73 : Nat) ({ cls := "jdk/internal/util/ArraysSupport", name := "newLength", desc := "(III)I" } : Jvm.MethodName)) ∈ lw_all := lw_g (lw_at lw_m3 7 rfl) rfl
theorem q527 : (Jvm.Cond.methodLink "java/util/ArrayList" (66 : Nat) ({ cls := "java/util/Arrays", name := "copyOf", desc := "([Ljava/lang/Object;I)[Ljava/lang/Object;" } : Jvm.MethodName)) ∈ lw_all := lw_g (lw_at lw_m3 17 rfl) rfl
theorem q546 : (Jvm.Cond.selects "java/util/ArrayList" ({ cls := "java/lang/Object", name := "getClass", desc := "()Ljava/lang/Class;" } : Jvm.MethodName) ({ cls := "java/lang/Object", name := "getClass", desc := "()Ljava/lang/Class;" } : Jvm.MethodName)) ∈ lw_all := lw_g (lw_at lw_m3 36 rfl) rfl
theorem q576 : (Jvm.Cond.methodLink "java/util/ArrayList" (79 : Nat) ({ cls := "java/lang/Math", name := "max", desc := "(II)I" } : Jvm.MethodName)) ∈ lw_all := lw_g (lw_at lw_m3 66 rfl) rfl
theorem q577 : (Jvm.Cond.classLink "java/util/ArrayList" (7 : Nat) "java/lang/Object") ∈ lw_all := lw_g (lw_at lw_m3 67 rfl) rfl
theorem q1393 : (Jvm.Cond.selects "java/util/ArrayList" ({ cls := "java/util/List", name := "get", desc := "(I)Ljava/lang/Object;" } : Jvm.MethodName) ({ cls := "java/util/ArrayList", name := "get", desc := "(I)Ljava/lang/Object;" } : Jvm.MethodName)) ∈ lw_all := lw_g (lw_at lw_m6 163 rfl) rfl
theorem q1394 : (Jvm.Cond.unhidden "java/util/ArrayList" "get" "(I)Ljava/lang/Object;") ∈ lw_tbl := lw_at lw_m6 164 rfl
theorem q1395 : (Jvm.Cond.instanceMethod ({ cls := "java/util/ArrayList", name := "get", desc := "(I)Ljava/lang/Object;" } : Jvm.MethodName)) ∈ lw_all := lw_g (lw_at lw_m6 165 rfl) rfl
theorem q1396 : (Jvm.Cond.publicMethod ({ cls := "java/util/ArrayList", name := "get", desc := "(I)Ljava/lang/Object;" } : Jvm.MethodName)) ∈ lw_tbl := lw_at lw_m6 166 rfl
theorem q1397 : (Jvm.Cond.code ({ cls := "java/util/ArrayList", name := "get", desc := "(I)Ljava/lang/Object;" } : Jvm.MethodName) prog_35_method_20_code (2 : Nat) (Option.some (Jvm.ClassFile.FieldType.object "java/lang/Object"))) ∈ lw_all := lw_g (lw_at lw_m6 167 rfl) rfl
theorem q1398 : (Jvm.Cond.methodLink "java/util/ArrayList" (118 : Nat) ({ cls := "java/util/Objects", name := "checkIndex", desc := "(II)I" } : Jvm.MethodName)) ∈ lw_all := lw_g (lw_at lw_m6 168 rfl) rfl
theorem q1404 : (Jvm.Cond.methodLink "java/util/ArrayList" (123 : Nat) ({ cls := "java/util/ArrayList", name := "elementData", desc := "(I)Ljava/lang/Object;" } : Jvm.MethodName)) ∈ lw_all := lw_g (lw_at lw_m6 174 rfl) rfl
theorem q1405 : (Jvm.Cond.instanceMethod ({ cls := "java/util/ArrayList", name := "elementData", desc := "(I)Ljava/lang/Object;" } : Jvm.MethodName)) ∈ lw_all := lw_g (lw_at lw_m6 175 rfl) rfl
theorem q1406 : (Jvm.Cond.selects "java/util/ArrayList" ({ cls := "java/util/ArrayList", name := "elementData", desc := "(I)Ljava/lang/Object;" } : Jvm.MethodName) ({ cls := "java/util/ArrayList", name := "elementData", desc := "(I)Ljava/lang/Object;" } : Jvm.MethodName)) ∈ lw_all := lw_g (lw_at lw_m6 176 rfl) rfl
theorem q1407 : (Jvm.Cond.code ({ cls := "java/util/ArrayList", name := "elementData", desc := "(I)Ljava/lang/Object;" } : Jvm.MethodName) prog_35_method_18_code (2 : Nat) (Option.some (Jvm.ClassFile.FieldType.object "java/lang/Object"))) ∈ lw_all := lw_g (lw_at lw_m6 177 rfl) rfl
theorem q1779 : (Jvm.Cond.selects "java/util/ArrayList" ({ cls := "java/util/List", name := "add", desc := "(ILjava/lang/Object;)V" } : Jvm.MethodName) ({ cls := "java/util/ArrayList", name := "add", desc := "(ILjava/lang/Object;)V" } : Jvm.MethodName)) ∈ lw_all := lw_g (lw_at lw_m8 69 rfl) rfl
theorem q1780 : (Jvm.Cond.unhidden "java/util/ArrayList" "add" "(ILjava/lang/Object;)V") ∈ lw_tbl := lw_at lw_m8 70 rfl
theorem q1781 : (Jvm.Cond.instanceMethod ({ cls := "java/util/ArrayList", name := "add", desc := "(ILjava/lang/Object;)V" } : Jvm.MethodName)) ∈ lw_all := lw_g (lw_at lw_m8 71 rfl) rfl
theorem q1782 : (Jvm.Cond.publicMethod ({ cls := "java/util/ArrayList", name := "add", desc := "(ILjava/lang/Object;)V" } : Jvm.MethodName)) ∈ lw_tbl := lw_at lw_m8 72 rfl
theorem q1783 : (Jvm.Cond.code ({ cls := "java/util/ArrayList", name := "add", desc := "(ILjava/lang/Object;)V" } : Jvm.MethodName) prog_35_method_26_code (5 : Nat) (Option.none : Option Jvm.ClassFile.FieldType)) ∈ lw_all := lw_g (lw_at lw_m8 73 rfl) rfl
theorem q1784 : (Jvm.Cond.methodLink "java/util/ArrayList" (135 : Nat) ({ cls := "java/util/ArrayList", name := "rangeCheckForAdd", desc := "(I)V" } : Jvm.MethodName)) ∈ lw_all := lw_g (lw_at lw_m8 74 rfl) rfl
theorem q1785 : (Jvm.Cond.privateMethod ({ cls := "java/util/ArrayList", name := "rangeCheckForAdd", desc := "(I)V" } : Jvm.MethodName)) ∈ lw_tbl := lw_at lw_m8 75 rfl
theorem q1786 : (Jvm.Cond.instanceMethod ({ cls := "java/util/ArrayList", name := "rangeCheckForAdd", desc := "(I)V" } : Jvm.MethodName)) ∈ lw_all := lw_g (lw_at lw_m8 76 rfl) rfl
theorem q1787 : (Jvm.Cond.code ({ cls := "java/util/ArrayList", name := "rangeCheckForAdd", desc := "(I)V" } : Jvm.MethodName) prog_35_method_45_code (2 : Nat) (Option.none : Option Jvm.ClassFile.FieldType)) ∈ lw_all := lw_g (lw_at lw_m8 77 rfl) rfl
theorem q1788 : (Jvm.Cond.methodLink "java/util/ArrayList" (112 : Nat) ({ cls := "java/lang/System", name := "arraycopy", desc := "(Ljava/lang/Object;ILjava/lang/Object;II)V" } : Jvm.MethodName)) ∈ lw_all := lw_g (lw_at lw_m8 78 rfl) rfl
theorem q1805 : (Jvm.Cond.selects "java/util/ArrayList" ({ cls := "java/util/List", name := "remove", desc := "(I)Ljava/lang/Object;" } : Jvm.MethodName) ({ cls := "java/util/ArrayList", name := "remove", desc := "(I)Ljava/lang/Object;" } : Jvm.MethodName)) ∈ lw_all := lw_g (lw_at lw_m8 95 rfl) rfl
theorem q1806 : (Jvm.Cond.unhidden "java/util/ArrayList" "remove" "(I)Ljava/lang/Object;") ∈ lw_tbl := lw_at lw_m8 96 rfl
theorem q1807 : (Jvm.Cond.instanceMethod ({ cls := "java/util/ArrayList", name := "remove", desc := "(I)Ljava/lang/Object;" } : Jvm.MethodName)) ∈ lw_all := lw_g (lw_at lw_m8 97 rfl) rfl
theorem q1808 : (Jvm.Cond.publicMethod ({ cls := "java/util/ArrayList", name := "remove", desc := "(I)Ljava/lang/Object;" } : Jvm.MethodName)) ∈ lw_tbl := lw_at lw_m8 98 rfl
theorem q1809 : (Jvm.Cond.code ({ cls := "java/util/ArrayList", name := "remove", desc := "(I)Ljava/lang/Object;" } : Jvm.MethodName) prog_35_method_29_code (4 : Nat) (Option.some (Jvm.ClassFile.FieldType.object "java/lang/Object"))) ∈ lw_all := lw_g (lw_at lw_m8 99 rfl) rfl
theorem q1810 : (Jvm.Cond.methodLink "java/util/ArrayList" (144 : Nat) ({ cls := "java/util/ArrayList", name := "fastRemove", desc := "([Ljava/lang/Object;I)V" } : Jvm.MethodName)) ∈ lw_all := lw_g (lw_at lw_m8 100 rfl) rfl
theorem q1811 : (Jvm.Cond.privateMethod ({ cls := "java/util/ArrayList", name := "fastRemove", desc := "([Ljava/lang/Object;I)V" } : Jvm.MethodName)) ∈ lw_tbl := lw_at lw_m8 101 rfl
theorem q1812 : (Jvm.Cond.instanceMethod ({ cls := "java/util/ArrayList", name := "fastRemove", desc := "([Ljava/lang/Object;I)V" } : Jvm.MethodName)) ∈ lw_all := lw_g (lw_at lw_m8 102 rfl) rfl
theorem q1813 : (Jvm.Cond.code ({ cls := "java/util/ArrayList", name := "fastRemove", desc := "([Ljava/lang/Object;I)V" } : Jvm.MethodName) prog_35_method_39_code (4 : Nat) (Option.none : Option Jvm.ClassFile.FieldType)) ∈ lw_all := lw_g (lw_at lw_m8 103 rfl) rfl
theorem q1996 : (Jvm.Cond.selects "java/util/ArrayList" ({ cls := "java/util/List", name := "remove", desc := "(Ljava/lang/Object;)Z" } : Jvm.MethodName) ({ cls := "java/util/ArrayList", name := "remove", desc := "(Ljava/lang/Object;)Z" } : Jvm.MethodName)) ∈ lw_all := lw_g (lw_at lw_m9 46 rfl) rfl
theorem q1997 : (Jvm.Cond.unhidden "java/util/ArrayList" "remove" "(Ljava/lang/Object;)Z") ∈ lw_tbl := lw_at lw_m9 47 rfl
theorem q1998 : (Jvm.Cond.instanceMethod ({ cls := "java/util/ArrayList", name := "remove", desc := "(Ljava/lang/Object;)Z" } : Jvm.MethodName)) ∈ lw_all := lw_g (lw_at lw_m9 48 rfl) rfl
theorem q1999 : (Jvm.Cond.publicMethod ({ cls := "java/util/ArrayList", name := "remove", desc := "(Ljava/lang/Object;)Z" } : Jvm.MethodName)) ∈ lw_tbl := lw_at lw_m9 49 rfl
theorem q2000 : (Jvm.Cond.code ({ cls := "java/util/ArrayList", name := "remove", desc := "(Ljava/lang/Object;)Z" } : Jvm.MethodName) prog_35_method_38_code (5 : Nat) (Option.some Jvm.ClassFile.FieldType.boolean)) ∈ lw_all := lw_g (lw_at lw_m9 50 rfl) rfl
theorem q2001 : (Jvm.Cond.methodLink "java/util/ArrayList" (93 : Nat) ({ cls := "java/lang/Object", name := "equals", desc := "(Ljava/lang/Object;)Z" } : Jvm.MethodName)) ∈ lw_all := lw_g (lw_at lw_m9 51 rfl) rfl
theorem q2029 : (Jvm.Cond.selects "java/util/ArrayList" ({ cls := "java/util/List", name := "indexOf", desc := "(Ljava/lang/Object;)I" } : Jvm.MethodName) ({ cls := "java/util/ArrayList", name := "indexOf", desc := "(Ljava/lang/Object;)I" } : Jvm.MethodName)) ∈ lw_all := lw_g (lw_at lw_m9 79 rfl) rfl
theorem q2030 : (Jvm.Cond.unhidden "java/util/ArrayList" "indexOf" "(Ljava/lang/Object;)I") ∈ lw_tbl := lw_at lw_m9 80 rfl
theorem q2031 : (Jvm.Cond.instanceMethod ({ cls := "java/util/ArrayList", name := "indexOf", desc := "(Ljava/lang/Object;)I" } : Jvm.MethodName)) ∈ lw_all := lw_g (lw_at lw_m9 81 rfl) rfl
theorem q2032 : (Jvm.Cond.publicMethod ({ cls := "java/util/ArrayList", name := "indexOf", desc := "(Ljava/lang/Object;)I" } : Jvm.MethodName)) ∈ lw_tbl := lw_at lw_m9 82 rfl
theorem q2033 : (Jvm.Cond.code ({ cls := "java/util/ArrayList", name := "indexOf", desc := "(Ljava/lang/Object;)I" } : Jvm.MethodName) prog_35_method_11_code (2 : Nat) (Option.some Jvm.ClassFile.FieldType.int)) ∈ lw_all := lw_g (lw_at lw_m9 83 rfl) rfl
theorem q2034 : (Jvm.Cond.methodLink "java/util/ArrayList" (89 : Nat) ({ cls := "java/util/ArrayList", name := "indexOfRange", desc := "(Ljava/lang/Object;II)I" } : Jvm.MethodName)) ∈ lw_all := lw_g (lw_at lw_m9 84 rfl) rfl
theorem q2035 : (Jvm.Cond.instanceMethod ({ cls := "java/util/ArrayList", name := "indexOfRange", desc := "(Ljava/lang/Object;II)I" } : Jvm.MethodName)) ∈ lw_all := lw_g (lw_at lw_m9 85 rfl) rfl
theorem q2036 : (Jvm.Cond.selects "java/util/ArrayList" ({ cls := "java/util/ArrayList", name := "indexOfRange", desc := "(Ljava/lang/Object;II)I" } : Jvm.MethodName) ({ cls := "java/util/ArrayList", name := "indexOfRange", desc := "(Ljava/lang/Object;II)I" } : Jvm.MethodName)) ∈ lw_all := lw_g (lw_at lw_m9 86 rfl) rfl
theorem q2037 : (Jvm.Cond.code ({ cls := "java/util/ArrayList", name := "indexOfRange", desc := "(Ljava/lang/Object;II)I" } : Jvm.MethodName) prog_35_method_12_code (6 : Nat) (Option.some Jvm.ClassFile.FieldType.int)) ∈ lw_all := lw_g (lw_at lw_m9 87 rfl) rfl
theorem q2413 : (Jvm.Cond.castable "java/util/ArrayList" "java/lang/Object") ∈ lw_tbl := lw_at lw_m10 223 rfl
theorem in_J2 : ∀ w ∈ wsJ20, w ∈ lw_all := lw_in wsJ20 [119, 115, 117] (by decide +kernel) (by decide +kernel)
/-! java/util/AbstractMap -/
set_option maxRecDepth 100000
def RJ3 : String := "java/util/AbstractMap"
abbrev cJ3_init : ByteArray := prog_33_method_1_code
def yJ3_init : MethodName := ⟨RJ3, "<init>", "()V"⟩
theorem dJ3_init_0 : decode cJ3_init 0 = .ok (.aload_n 0, 1) := by decide +kernel
theorem dJ3_init_1 : decode cJ3_init 1 = .ok (.invokespecial 1, 3) := by decide +kernel
theorem dJ3_init_4 : decode cJ3_init 4 = .ok (.return_, 1) := by decide +kernel
theorem q36 : (Jvm.Cond.initialized "java/util/AbstractMap") ∈ lw_all := lw_g (lw_at lw_m1 6 rfl) rfl
theorem q131 : (Jvm.Cond.instanceMethod ({ cls := "java/util/AbstractMap", name := "<init>", desc := "()V" } : Jvm.MethodName)) ∈ lw_all := lw_g (lw_at lw_m1 101 rfl) rfl
theorem q132 : (Jvm.Cond.code ({ cls := "java/util/AbstractMap", name := "<init>", desc := "()V" } : Jvm.MethodName) prog_33_method_1_code (1 : Nat) (Option.none : Option Jvm.ClassFile.FieldType)) ∈ lw_all := lw_g (lw_at lw_m1 102 rfl) rfl
theorem q133 : (Jvm.Cond.methodLink "java/util/AbstractMap" (1 : Nat) ({ cls := "java/lang/Object", name := "<init>", desc := "()V" } : Jvm.MethodName)) ∈ lw_all := lw_g (lw_at lw_m1 103 rfl) rfl
theorem q180 : (Jvm.Cond.soleField "java/util/AbstractMap" "keySet") ∈ lw_all := lw_g (lw_at lw_m1 150 rfl) rfl
theorem q182 : (Jvm.Cond.soleField "java/util/AbstractMap" "values") ∈ lw_all := lw_g (lw_at lw_m1 152 rfl) rfl
/-! java/util/HashMap -/
set_option maxRecDepth 100000
def RJ4 : String := "java/util/HashMap"
def TJ4 : u_T := fun k => match k with
  | 0 => ("java/util/AbstractMap", "keySet", "Ljava/util/Set;", false)
  | 1 => ("java/util/AbstractMap", "values", "Ljava/util/Collection;", false)
  | 2 => ("java/util/HashMap", "table", "[Ljava/util/HashMap$Node;", false)
  | 3 => ("java/util/HashMap", "entrySet", "Ljava/util/Set;", false)
  | 4 => ("java/util/HashMap", "size", "I", false)
  | 5 => ("java/util/HashMap", "modCount", "I", false)
  | 6 => ("java/util/HashMap", "threshold", "I", false)
  | _ => ("java/util/HashMap", "loadFactor", "F", true)
def tyJ4 : Nat → FieldType := fun k => match k with
  | 0 => .object "java/util/Set"
  | 1 => .object "java/util/Collection"
  | 2 => .array (.object "java/util/HashMap$Node")
  | 3 => .object "java/util/Set"
  | 4 => .int
  | 5 => .int
  | 6 => .int
  | _ => .float
abbrev wsJ40 : List Cond := u_ws RJ4 TJ4 8
theorem nmJ4 : ∀ a, a < 8 → ∀ b, b < 8 → a ≠ b → (TJ4 a).2.1 ≠ (TJ4 b).2.1 := by decide +kernel
theorem tyJ4_ok : ∀ k, k < 8 → parseFieldDescriptor (TJ4 k).2.2.1 = some (tyJ4 k) := by decide +kernel
abbrev cJ4_init : ByteArray := prog_39_method_7_code
def yJ4_init : MethodName := ⟨RJ4, "<init>", "()V"⟩
def dkwJ4_init_0 : List UInt8 := [42, 183, 0, 43, 42, 18, 92, 181, 0, 81, 177]
abbrev dktJ4_init_0 : List UInt8 := dkwJ4_init_0 ++ []
theorem dksJ4_init_0 : cJ4_init.data.toList.drop 0 = dktJ4_init_0 := by decide +kernel
theorem dJ4_init_0 : decode cJ4_init 0 = .ok (.aload_n 0, 1) := dk_42 (dk_at dksJ4_init_0 0 rfl rfl)
theorem dJ4_init_1 : decode cJ4_init 1 = .ok (.invokespecial 43, 3) := dk_183 0 43 (dk_at dksJ4_init_0 1 rfl rfl)
theorem dJ4_init_4 : decode cJ4_init 4 = .ok (.aload_n 0, 1) := dk_42 (dk_at dksJ4_init_0 4 rfl rfl)
theorem dJ4_init_5 : decode cJ4_init 5 = .ok (.ldc 92, 2) := dk_18 92 (dk_at dksJ4_init_0 5 rfl rfl)
theorem dJ4_init_7 : decode cJ4_init 7 = .ok (.putfield 81, 3) := dk_181 0 81 (dk_at dksJ4_init_0 7 rfl rfl)
theorem dJ4_init_10 : decode cJ4_init 10 = .ok (.return_, 1) := dk_177 (dk_at dksJ4_init_0 10 rfl rfl)
abbrev cJ4_entrySet : ByteArray := prog_39_method_29_code
def yJ4_entrySet : MethodName := ⟨RJ4, "entrySet", "()Ljava/util/Set;"⟩
abbrev cJ4_keySet : ByteArray := prog_39_method_24_code
def yJ4_keySet : MethodName := ⟨RJ4, "keySet", "()Ljava/util/Set;"⟩
abbrev cJ4_put : ByteArray := prog_39_method_15_code
def yJ4_put : MethodName := ⟨RJ4, "put", "(Ljava/lang/Object;Ljava/lang/Object;)Ljava/lang/Object;"⟩
def dkwJ4_put_0 : List UInt8 := [42, 43, 184, 0, 149, 43, 44, 3, 4, 182, 0, 152, 176]
abbrev dktJ4_put_0 : List UInt8 := dkwJ4_put_0 ++ []
theorem dksJ4_put_0 : cJ4_put.data.toList.drop 0 = dktJ4_put_0 := by decide +kernel
theorem dJ4_put_0 : decode cJ4_put 0 = .ok (.aload_n 0, 1) := dk_42 (dk_at dksJ4_put_0 0 rfl rfl)
theorem dJ4_put_1 : decode cJ4_put 1 = .ok (.aload_n 1, 1) := dk_43 (dk_at dksJ4_put_0 1 rfl rfl)
theorem dJ4_put_2 : decode cJ4_put 2 = .ok (.invokestatic 149, 3) := dk_184 0 149 (dk_at dksJ4_put_0 2 rfl rfl)
theorem dJ4_put_5 : decode cJ4_put 5 = .ok (.aload_n 1, 1) := dk_43 (dk_at dksJ4_put_0 5 rfl rfl)
theorem dJ4_put_6 : decode cJ4_put 6 = .ok (.aload_n 2, 1) := dk_44 (dk_at dksJ4_put_0 6 rfl rfl)
theorem dJ4_put_7 : decode cJ4_put 7 = .ok (.iconst 0, 1) := dk_3 (dk_at dksJ4_put_0 7 rfl rfl)
theorem dJ4_put_8 : decode cJ4_put 8 = .ok (.iconst 1, 1) := dk_4 (dk_at dksJ4_put_0 8 rfl rfl)
theorem dJ4_put_9 : decode cJ4_put 9 = .ok (.invokevirtual 152, 3) := dk_182 0 152 (dk_at dksJ4_put_0 9 rfl rfl)
theorem dJ4_put_12 : decode cJ4_put 12 = .ok (.areturn, 1) := dk_176 (dk_at dksJ4_put_0 12 rfl rfl)
abbrev cJ4_hash : ByteArray := prog_39_method_1_code
def yJ4_hash : MethodName := ⟨RJ4, "hash", "(Ljava/lang/Object;)I"⟩
def dkwJ4_hash_0 : List UInt8 := [42, 199, 0, 7, 3, 167, 0, 14, 42, 182, 0, 1, 89, 60, 27, 16, 16, 124, 130, 172]
abbrev dktJ4_hash_0 : List UInt8 := dkwJ4_hash_0 ++ []
theorem dksJ4_hash_0 : cJ4_hash.data.toList.drop 0 = dktJ4_hash_0 := by decide +kernel
theorem dJ4_hash_0 : decode cJ4_hash 0 = .ok (.aload_n 0, 1) := dk_42 (dk_at dksJ4_hash_0 0 rfl rfl)
theorem dJ4_hash_1 : decode cJ4_hash 1 = .ok (.ifnonnull 7, 3) := dk_199 0 7 (dk_at dksJ4_hash_0 1 rfl rfl)
theorem dJ4_hash_4 : decode cJ4_hash 4 = .ok (.iconst 0, 1) := dk_3 (dk_at dksJ4_hash_0 4 rfl rfl)
theorem dJ4_hash_5 : decode cJ4_hash 5 = .ok (.goto 14, 3) := dk_167 0 14 (dk_at dksJ4_hash_0 5 rfl rfl)
theorem dJ4_hash_8 : decode cJ4_hash 8 = .ok (.aload_n 0, 1) := dk_42 (dk_at dksJ4_hash_0 8 rfl rfl)
theorem dJ4_hash_9 : decode cJ4_hash 9 = .ok (.invokevirtual 1, 3) := dk_182 0 1 (dk_at dksJ4_hash_0 9 rfl rfl)
theorem dJ4_hash_12 : decode cJ4_hash 12 = .ok (.dup, 1) := dk_89 (dk_at dksJ4_hash_0 12 rfl rfl)
theorem dJ4_hash_13 : decode cJ4_hash 13 = .ok (.istore_n 1, 1) := dk_60 (dk_at dksJ4_hash_0 13 rfl rfl)
theorem dJ4_hash_14 : decode cJ4_hash 14 = .ok (.iload_n 1, 1) := dk_27 (dk_at dksJ4_hash_0 14 rfl rfl)
theorem dJ4_hash_15 : decode cJ4_hash 15 = .ok (.bipush 16, 2) := dk_16 16 (dk_at dksJ4_hash_0 15 rfl rfl)
theorem dJ4_hash_17 : decode cJ4_hash 17 = .ok (.iushr, 1) := dk_124 (dk_at dksJ4_hash_0 17 rfl rfl)
theorem dJ4_hash_18 : decode cJ4_hash 18 = .ok (.ixor, 1) := dk_130 (dk_at dksJ4_hash_0 18 rfl rfl)
theorem dJ4_hash_19 : decode cJ4_hash 19 = .ok (.ireturn, 1) := dk_172 (dk_at dksJ4_hash_0 19 rfl rfl)
abbrev cJ4_putVal : ByteArray := prog_39_method_16_code
def yJ4_putVal : MethodName := ⟨RJ4, "putVal", "(ILjava/lang/Object;Ljava/lang/Object;ZZ)Ljava/lang/Object;"⟩
def dkwJ4_putVal_12 : List UInt8 := [181, 0, 156, 42, 180, 0, 88, 164, 0, 8, 42, 182, 0, 117, 87, 42, 21, 5, 182, 0, 205, 1, 176]
abbrev dktJ4_putVal_12 : List UInt8 := dkwJ4_putVal_12 ++ []
def dkwJ4_putVal_11 : List UInt8 := [182, 0, 198, 25, 12, 176, 42, 89, 180, 0, 202, 4, 96, 181, 0, 202, 42, 89, 180, 0, 156, 4, 96, 90]
abbrev dktJ4_putVal_11 : List UInt8 := dkwJ4_putVal_11 ++ dktJ4_putVal_12
def dkwJ4_putVal_10 : List UInt8 := [180, 0, 162, 58, 12, 21, 4, 153, 0, 8, 25, 12, 199, 0, 9, 25, 10, 45, 181, 0, 162, 42, 25, 10]
abbrev dktJ4_putVal_10 : List UInt8 := dkwJ4_putVal_10 ++ dktJ4_putVal_11
def dkwJ4_putVal_9 : List UInt8 := [153, 0, 6, 167, 0, 13, 25, 10, 58, 7, 132, 12, 1, 167, 255, 171, 25, 10, 198, 0, 35, 25, 10]
abbrev dktJ4_putVal_9 : List UInt8 := dkwJ4_putVal_9 ++ dktJ4_putVal_10
def dkwJ4_putVal_8 : List UInt8 := [25, 10, 180, 0, 170, 89, 58, 11, 44, 165, 0, 29, 44, 198, 0, 15, 44, 25, 11, 182, 0, 173]
abbrev dktJ4_putVal_8 : List UInt8 := dkwJ4_putVal_8 ++ dktJ4_putVal_9
def dkwJ4_putVal_7 : List UInt8 := [16, 7, 161, 0, 60, 42, 25, 6, 27, 182, 0, 194, 167, 0, 50, 25, 10, 180, 0, 168, 27, 160, 0, 31]
abbrev dktJ4_putVal_7 : List UInt8 := dkwJ4_putVal_7 ++ dktJ4_putVal_8
def dkwJ4_putVal_6 : List UInt8 := [180, 0, 177, 89, 58, 10, 199, 0, 33, 25, 7, 42, 27, 44, 45, 1, 182, 0, 186, 181, 0, 177, 21, 12]
abbrev dktJ4_putVal_6 : List UInt8 := dkwJ4_putVal_6 ++ dktJ4_putVal_7
def dkwJ4_putVal_5 : List UInt8 := [192, 0, 180, 42, 25, 6, 27, 44, 45, 182, 0, 190, 58, 10, 167, 0, 94, 3, 54, 12, 25, 7]
abbrev dktJ4_putVal_5 : List UInt8 := dkwJ4_putVal_5 ++ dktJ4_putVal_6
def dkwJ4_putVal_4 : List UInt8 := [182, 0, 173, 153, 0, 10, 25, 7, 58, 10, 167, 0, 121, 25, 7, 193, 0, 180, 153, 0, 22, 25, 7]
abbrev dktJ4_putVal_4 : List UInt8 := dkwJ4_putVal_4 ++ dktJ4_putVal_5
def dkwJ4_putVal_3 : List UInt8 := [160, 0, 35, 25, 7, 180, 0, 170, 89, 58, 11, 44, 165, 0, 16, 44, 198, 0, 19, 44, 25, 11]
abbrev dktJ4_putVal_3 : List UInt8 := dkwJ4_putVal_3 ++ dktJ4_putVal_4
def dkwJ4_putVal_2 : List UInt8 := [25, 6, 21, 9, 42, 27, 44, 45, 1, 182, 0, 186, 83, 167, 0, 199, 25, 7, 180, 0, 168, 27]
abbrev dktJ4_putVal_2 : List UInt8 := dkwJ4_putVal_2 ++ dktJ4_putVal_3
def dkwJ4_putVal_1 : List UInt8 := [58, 6, 190, 54, 8, 25, 6, 21, 8, 4, 100, 27, 126, 89, 54, 9, 50, 89, 58, 7, 199, 0, 19]
abbrev dktJ4_putVal_1 : List UInt8 := dkwJ4_putVal_1 ++ dktJ4_putVal_2
def dkwJ4_putVal_0 : List UInt8 := [42, 180, 0, 105, 89, 58, 6, 198, 0, 12, 25, 6, 190, 89, 54, 8, 154, 0, 13, 42, 182, 0, 117, 89]
abbrev dktJ4_putVal_0 : List UInt8 := dkwJ4_putVal_0 ++ dktJ4_putVal_1
theorem dksJ4_putVal_0 : cJ4_putVal.data.toList.drop 0 = dktJ4_putVal_0 := by decide +kernel
theorem dksJ4_putVal_1 : cJ4_putVal.data.toList.drop 24 = dktJ4_putVal_1 := dk_seg dksJ4_putVal_0 24 rfl rfl
theorem dksJ4_putVal_2 : cJ4_putVal.data.toList.drop 47 = dktJ4_putVal_2 := dk_seg dksJ4_putVal_1 23 rfl rfl
theorem dksJ4_putVal_3 : cJ4_putVal.data.toList.drop 69 = dktJ4_putVal_3 := dk_seg dksJ4_putVal_2 22 rfl rfl
theorem dksJ4_putVal_4 : cJ4_putVal.data.toList.drop 91 = dktJ4_putVal_4 := dk_seg dksJ4_putVal_3 22 rfl rfl
theorem dksJ4_putVal_5 : cJ4_putVal.data.toList.drop 114 = dktJ4_putVal_5 := dk_seg dksJ4_putVal_4 23 rfl rfl
theorem dksJ4_putVal_6 : cJ4_putVal.data.toList.drop 136 = dktJ4_putVal_6 := dk_seg dksJ4_putVal_5 22 rfl rfl
theorem dksJ4_putVal_7 : cJ4_putVal.data.toList.drop 160 = dktJ4_putVal_7 := dk_seg dksJ4_putVal_6 24 rfl rfl
theorem dksJ4_putVal_8 : cJ4_putVal.data.toList.drop 184 = dktJ4_putVal_8 := dk_seg dksJ4_putVal_7 24 rfl rfl
theorem dksJ4_putVal_9 : cJ4_putVal.data.toList.drop 206 = dktJ4_putVal_9 := dk_seg dksJ4_putVal_8 22 rfl rfl
theorem dksJ4_putVal_10 : cJ4_putVal.data.toList.drop 229 = dktJ4_putVal_10 := dk_seg dksJ4_putVal_9 23 rfl rfl
theorem dksJ4_putVal_11 : cJ4_putVal.data.toList.drop 253 = dktJ4_putVal_11 := dk_seg dksJ4_putVal_10 24 rfl rfl
theorem dksJ4_putVal_12 : cJ4_putVal.data.toList.drop 277 = dktJ4_putVal_12 := dk_seg dksJ4_putVal_11 24 rfl rfl
theorem dJ4_putVal_0 : decode cJ4_putVal 0 = .ok (.aload_n 0, 1) := dk_42 (dk_at dksJ4_putVal_0 0 rfl rfl)
theorem dJ4_putVal_1 : decode cJ4_putVal 1 = .ok (.getfield 105, 3) := dk_180 0 105 (dk_at dksJ4_putVal_0 1 rfl rfl)
theorem dJ4_putVal_4 : decode cJ4_putVal 4 = .ok (.dup, 1) := dk_89 (dk_at dksJ4_putVal_0 4 rfl rfl)
theorem dJ4_putVal_5 : decode cJ4_putVal 5 = .ok (.astore 6, 2) := dk_58 6 (dk_at dksJ4_putVal_0 5 rfl rfl)
theorem dJ4_putVal_7 : decode cJ4_putVal 7 = .ok (.ifnull 12, 3) := dk_198 0 12 (dk_at dksJ4_putVal_0 7 rfl rfl)
theorem dJ4_putVal_10 : decode cJ4_putVal 10 = .ok (.aload 6, 2) := dk_25 6 (dk_at dksJ4_putVal_0 10 rfl rfl)
theorem dJ4_putVal_12 : decode cJ4_putVal 12 = .ok (.arraylength, 1) := dk_190 (dk_at dksJ4_putVal_0 12 rfl rfl)
theorem dJ4_putVal_13 : decode cJ4_putVal 13 = .ok (.dup, 1) := dk_89 (dk_at dksJ4_putVal_0 13 rfl rfl)
theorem dJ4_putVal_14 : decode cJ4_putVal 14 = .ok (.istore 8, 2) := dk_54 8 (dk_at dksJ4_putVal_0 14 rfl rfl)
theorem dJ4_putVal_16 : decode cJ4_putVal 16 = .ok (.ifCond .ne 13, 3) := dk_154 0 13 (dk_at dksJ4_putVal_0 16 rfl rfl)
theorem dJ4_putVal_19 : decode cJ4_putVal 19 = .ok (.aload_n 0, 1) := dk_42 (dk_at dksJ4_putVal_0 19 rfl rfl)
theorem dJ4_putVal_20 : decode cJ4_putVal 20 = .ok (.invokevirtual 117, 3) := dk_182 0 117 (dk_at dksJ4_putVal_0 20 rfl rfl)
theorem dJ4_putVal_23 : decode cJ4_putVal 23 = .ok (.dup, 1) := dk_89 (dk_at dksJ4_putVal_0 23 rfl rfl)
theorem dJ4_putVal_24 : decode cJ4_putVal 24 = .ok (.astore 6, 2) := dk_58 6 (dk_at dksJ4_putVal_1 0 rfl rfl)
theorem dJ4_putVal_26 : decode cJ4_putVal 26 = .ok (.arraylength, 1) := dk_190 (dk_at dksJ4_putVal_1 2 rfl rfl)
theorem dJ4_putVal_27 : decode cJ4_putVal 27 = .ok (.istore 8, 2) := dk_54 8 (dk_at dksJ4_putVal_1 3 rfl rfl)
theorem dJ4_putVal_29 : decode cJ4_putVal 29 = .ok (.aload 6, 2) := dk_25 6 (dk_at dksJ4_putVal_1 5 rfl rfl)
theorem dJ4_putVal_31 : decode cJ4_putVal 31 = .ok (.iload 8, 2) := dk_21 8 (dk_at dksJ4_putVal_1 7 rfl rfl)
theorem dJ4_putVal_33 : decode cJ4_putVal 33 = .ok (.iconst 1, 1) := dk_4 (dk_at dksJ4_putVal_1 9 rfl rfl)
theorem dJ4_putVal_34 : decode cJ4_putVal 34 = .ok (.isub, 1) := dk_100 (dk_at dksJ4_putVal_1 10 rfl rfl)
theorem dJ4_putVal_35 : decode cJ4_putVal 35 = .ok (.iload_n 1, 1) := dk_27 (dk_at dksJ4_putVal_1 11 rfl rfl)
theorem dJ4_putVal_36 : decode cJ4_putVal 36 = .ok (.iand, 1) := dk_126 (dk_at dksJ4_putVal_1 12 rfl rfl)
theorem dJ4_putVal_37 : decode cJ4_putVal 37 = .ok (.dup, 1) := dk_89 (dk_at dksJ4_putVal_1 13 rfl rfl)
theorem dJ4_putVal_38 : decode cJ4_putVal 38 = .ok (.istore 9, 2) := dk_54 9 (dk_at dksJ4_putVal_1 14 rfl rfl)
theorem dJ4_putVal_40 : decode cJ4_putVal 40 = .ok (.aaload, 1) := dk_50 (dk_at dksJ4_putVal_1 16 rfl rfl)
theorem dJ4_putVal_41 : decode cJ4_putVal 41 = .ok (.dup, 1) := dk_89 (dk_at dksJ4_putVal_1 17 rfl rfl)
theorem dJ4_putVal_42 : decode cJ4_putVal 42 = .ok (.astore 7, 2) := dk_58 7 (dk_at dksJ4_putVal_1 18 rfl rfl)
theorem dJ4_putVal_44 : decode cJ4_putVal 44 = .ok (.ifnonnull 19, 3) := dk_199 0 19 (dk_at dksJ4_putVal_1 20 rfl rfl)
theorem dJ4_putVal_47 : decode cJ4_putVal 47 = .ok (.aload 6, 2) := dk_25 6 (dk_at dksJ4_putVal_2 0 rfl rfl)
theorem dJ4_putVal_49 : decode cJ4_putVal 49 = .ok (.iload 9, 2) := dk_21 9 (dk_at dksJ4_putVal_2 2 rfl rfl)
theorem dJ4_putVal_51 : decode cJ4_putVal 51 = .ok (.aload_n 0, 1) := dk_42 (dk_at dksJ4_putVal_2 4 rfl rfl)
theorem dJ4_putVal_52 : decode cJ4_putVal 52 = .ok (.iload_n 1, 1) := dk_27 (dk_at dksJ4_putVal_2 5 rfl rfl)
theorem dJ4_putVal_53 : decode cJ4_putVal 53 = .ok (.aload_n 2, 1) := dk_44 (dk_at dksJ4_putVal_2 6 rfl rfl)
theorem dJ4_putVal_54 : decode cJ4_putVal 54 = .ok (.aload_n 3, 1) := dk_45 (dk_at dksJ4_putVal_2 7 rfl rfl)
theorem dJ4_putVal_55 : decode cJ4_putVal 55 = .ok (.aconst_null, 1) := dk_1 (dk_at dksJ4_putVal_2 8 rfl rfl)
theorem dJ4_putVal_56 : decode cJ4_putVal 56 = .ok (.invokevirtual 186, 3) := dk_182 0 186 (dk_at dksJ4_putVal_2 9 rfl rfl)
theorem dJ4_putVal_59 : decode cJ4_putVal 59 = .ok (.aastore, 1) := dk_83 (dk_at dksJ4_putVal_2 12 rfl rfl)
theorem dJ4_putVal_60 : decode cJ4_putVal 60 = .ok (.goto 199, 3) := dk_167 0 199 (dk_at dksJ4_putVal_2 13 rfl rfl)
theorem dJ4_putVal_63 : decode cJ4_putVal 63 = .ok (.aload 7, 2) := dk_25 7 (dk_at dksJ4_putVal_2 16 rfl rfl)
theorem dJ4_putVal_65 : decode cJ4_putVal 65 = .ok (.getfield 168, 3) := dk_180 0 168 (dk_at dksJ4_putVal_2 18 rfl rfl)
theorem dJ4_putVal_68 : decode cJ4_putVal 68 = .ok (.iload_n 1, 1) := dk_27 (dk_at dksJ4_putVal_2 21 rfl rfl)
theorem dJ4_putVal_69 : decode cJ4_putVal 69 = .ok (.if_icmp .ne 35, 3) := dk_160 0 35 (dk_at dksJ4_putVal_3 0 rfl rfl)
theorem dJ4_putVal_72 : decode cJ4_putVal 72 = .ok (.aload 7, 2) := dk_25 7 (dk_at dksJ4_putVal_3 3 rfl rfl)
theorem dJ4_putVal_74 : decode cJ4_putVal 74 = .ok (.getfield 170, 3) := dk_180 0 170 (dk_at dksJ4_putVal_3 5 rfl rfl)
theorem dJ4_putVal_77 : decode cJ4_putVal 77 = .ok (.dup, 1) := dk_89 (dk_at dksJ4_putVal_3 8 rfl rfl)
theorem dJ4_putVal_78 : decode cJ4_putVal 78 = .ok (.astore 11, 2) := dk_58 11 (dk_at dksJ4_putVal_3 9 rfl rfl)
theorem dJ4_putVal_80 : decode cJ4_putVal 80 = .ok (.aload_n 2, 1) := dk_44 (dk_at dksJ4_putVal_3 11 rfl rfl)
theorem dJ4_putVal_81 : decode cJ4_putVal 81 = .ok (.if_acmp .eq 16, 3) := dk_165 0 16 (dk_at dksJ4_putVal_3 12 rfl rfl)
theorem dJ4_putVal_84 : decode cJ4_putVal 84 = .ok (.aload_n 2, 1) := dk_44 (dk_at dksJ4_putVal_3 15 rfl rfl)
theorem dJ4_putVal_85 : decode cJ4_putVal 85 = .ok (.ifnull 19, 3) := dk_198 0 19 (dk_at dksJ4_putVal_3 16 rfl rfl)
theorem dJ4_putVal_88 : decode cJ4_putVal 88 = .ok (.aload_n 2, 1) := dk_44 (dk_at dksJ4_putVal_3 19 rfl rfl)
theorem dJ4_putVal_89 : decode cJ4_putVal 89 = .ok (.aload 11, 2) := dk_25 11 (dk_at dksJ4_putVal_3 20 rfl rfl)
theorem dJ4_putVal_91 : decode cJ4_putVal 91 = .ok (.invokevirtual 173, 3) := dk_182 0 173 (dk_at dksJ4_putVal_4 0 rfl rfl)
theorem dJ4_putVal_94 : decode cJ4_putVal 94 = .ok (.ifCond .eq 10, 3) := dk_153 0 10 (dk_at dksJ4_putVal_4 3 rfl rfl)
theorem dJ4_putVal_97 : decode cJ4_putVal 97 = .ok (.aload 7, 2) := dk_25 7 (dk_at dksJ4_putVal_4 6 rfl rfl)
theorem dJ4_putVal_99 : decode cJ4_putVal 99 = .ok (.astore 10, 2) := dk_58 10 (dk_at dksJ4_putVal_4 8 rfl rfl)
theorem dJ4_putVal_101 : decode cJ4_putVal 101 = .ok (.goto 121, 3) := dk_167 0 121 (dk_at dksJ4_putVal_4 10 rfl rfl)
theorem dJ4_putVal_104 : decode cJ4_putVal 104 = .ok (.aload 7, 2) := dk_25 7 (dk_at dksJ4_putVal_4 13 rfl rfl)
theorem dJ4_putVal_106 : decode cJ4_putVal 106 = .ok (.instanceof 180, 3) := dk_193 0 180 (dk_at dksJ4_putVal_4 15 rfl rfl)
theorem dJ4_putVal_109 : decode cJ4_putVal 109 = .ok (.ifCond .eq 22, 3) := dk_153 0 22 (dk_at dksJ4_putVal_4 18 rfl rfl)
theorem dJ4_putVal_112 : decode cJ4_putVal 112 = .ok (.aload 7, 2) := dk_25 7 (dk_at dksJ4_putVal_4 21 rfl rfl)
theorem dJ4_putVal_114 : decode cJ4_putVal 114 = .ok (.checkcast 180, 3) := dk_192 0 180 (dk_at dksJ4_putVal_5 0 rfl rfl)
theorem dJ4_putVal_117 : decode cJ4_putVal 117 = .ok (.aload_n 0, 1) := dk_42 (dk_at dksJ4_putVal_5 3 rfl rfl)
theorem dJ4_putVal_118 : decode cJ4_putVal 118 = .ok (.aload 6, 2) := dk_25 6 (dk_at dksJ4_putVal_5 4 rfl rfl)
theorem dJ4_putVal_120 : decode cJ4_putVal 120 = .ok (.iload_n 1, 1) := dk_27 (dk_at dksJ4_putVal_5 6 rfl rfl)
theorem dJ4_putVal_121 : decode cJ4_putVal 121 = .ok (.aload_n 2, 1) := dk_44 (dk_at dksJ4_putVal_5 7 rfl rfl)
theorem dJ4_putVal_122 : decode cJ4_putVal 122 = .ok (.aload_n 3, 1) := dk_45 (dk_at dksJ4_putVal_5 8 rfl rfl)
theorem dJ4_putVal_123 : decode cJ4_putVal 123 = .ok (.invokevirtual 190, 3) := dk_182 0 190 (dk_at dksJ4_putVal_5 9 rfl rfl)
theorem dJ4_putVal_126 : decode cJ4_putVal 126 = .ok (.astore 10, 2) := dk_58 10 (dk_at dksJ4_putVal_5 12 rfl rfl)
theorem dJ4_putVal_128 : decode cJ4_putVal 128 = .ok (.goto 94, 3) := dk_167 0 94 (dk_at dksJ4_putVal_5 14 rfl rfl)
theorem dJ4_putVal_131 : decode cJ4_putVal 131 = .ok (.iconst 0, 1) := dk_3 (dk_at dksJ4_putVal_5 17 rfl rfl)
theorem dJ4_putVal_132 : decode cJ4_putVal 132 = .ok (.istore 12, 2) := dk_54 12 (dk_at dksJ4_putVal_5 18 rfl rfl)
theorem dJ4_putVal_134 : decode cJ4_putVal 134 = .ok (.aload 7, 2) := dk_25 7 (dk_at dksJ4_putVal_5 20 rfl rfl)
theorem dJ4_putVal_136 : decode cJ4_putVal 136 = .ok (.getfield 177, 3) := dk_180 0 177 (dk_at dksJ4_putVal_6 0 rfl rfl)
theorem dJ4_putVal_139 : decode cJ4_putVal 139 = .ok (.dup, 1) := dk_89 (dk_at dksJ4_putVal_6 3 rfl rfl)
theorem dJ4_putVal_140 : decode cJ4_putVal 140 = .ok (.astore 10, 2) := dk_58 10 (dk_at dksJ4_putVal_6 4 rfl rfl)
theorem dJ4_putVal_142 : decode cJ4_putVal 142 = .ok (.ifnonnull 33, 3) := dk_199 0 33 (dk_at dksJ4_putVal_6 6 rfl rfl)
theorem dJ4_putVal_145 : decode cJ4_putVal 145 = .ok (.aload 7, 2) := dk_25 7 (dk_at dksJ4_putVal_6 9 rfl rfl)
theorem dJ4_putVal_147 : decode cJ4_putVal 147 = .ok (.aload_n 0, 1) := dk_42 (dk_at dksJ4_putVal_6 11 rfl rfl)
theorem dJ4_putVal_148 : decode cJ4_putVal 148 = .ok (.iload_n 1, 1) := dk_27 (dk_at dksJ4_putVal_6 12 rfl rfl)
theorem dJ4_putVal_149 : decode cJ4_putVal 149 = .ok (.aload_n 2, 1) := dk_44 (dk_at dksJ4_putVal_6 13 rfl rfl)
theorem dJ4_putVal_150 : decode cJ4_putVal 150 = .ok (.aload_n 3, 1) := dk_45 (dk_at dksJ4_putVal_6 14 rfl rfl)
theorem dJ4_putVal_151 : decode cJ4_putVal 151 = .ok (.aconst_null, 1) := dk_1 (dk_at dksJ4_putVal_6 15 rfl rfl)
theorem dJ4_putVal_152 : decode cJ4_putVal 152 = .ok (.invokevirtual 186, 3) := dk_182 0 186 (dk_at dksJ4_putVal_6 16 rfl rfl)
theorem dJ4_putVal_155 : decode cJ4_putVal 155 = .ok (.putfield 177, 3) := dk_181 0 177 (dk_at dksJ4_putVal_6 19 rfl rfl)
theorem dJ4_putVal_158 : decode cJ4_putVal 158 = .ok (.iload 12, 2) := dk_21 12 (dk_at dksJ4_putVal_6 22 rfl rfl)
theorem dJ4_putVal_160 : decode cJ4_putVal 160 = .ok (.bipush 7, 2) := dk_16 7 (dk_at dksJ4_putVal_7 0 rfl rfl)
theorem dJ4_putVal_162 : decode cJ4_putVal 162 = .ok (.if_icmp .lt 60, 3) := dk_161 0 60 (dk_at dksJ4_putVal_7 2 rfl rfl)
theorem dJ4_putVal_165 : decode cJ4_putVal 165 = .ok (.aload_n 0, 1) := dk_42 (dk_at dksJ4_putVal_7 5 rfl rfl)
theorem dJ4_putVal_166 : decode cJ4_putVal 166 = .ok (.aload 6, 2) := dk_25 6 (dk_at dksJ4_putVal_7 6 rfl rfl)
theorem dJ4_putVal_168 : decode cJ4_putVal 168 = .ok (.iload_n 1, 1) := dk_27 (dk_at dksJ4_putVal_7 8 rfl rfl)
theorem dJ4_putVal_169 : decode cJ4_putVal 169 = .ok (.invokevirtual 194, 3) := dk_182 0 194 (dk_at dksJ4_putVal_7 9 rfl rfl)
theorem dJ4_putVal_172 : decode cJ4_putVal 172 = .ok (.goto 50, 3) := dk_167 0 50 (dk_at dksJ4_putVal_7 12 rfl rfl)
theorem dJ4_putVal_175 : decode cJ4_putVal 175 = .ok (.aload 10, 2) := dk_25 10 (dk_at dksJ4_putVal_7 15 rfl rfl)
theorem dJ4_putVal_177 : decode cJ4_putVal 177 = .ok (.getfield 168, 3) := dk_180 0 168 (dk_at dksJ4_putVal_7 17 rfl rfl)
theorem dJ4_putVal_180 : decode cJ4_putVal 180 = .ok (.iload_n 1, 1) := dk_27 (dk_at dksJ4_putVal_7 20 rfl rfl)
theorem dJ4_putVal_181 : decode cJ4_putVal 181 = .ok (.if_icmp .ne 31, 3) := dk_160 0 31 (dk_at dksJ4_putVal_7 21 rfl rfl)
theorem dJ4_putVal_184 : decode cJ4_putVal 184 = .ok (.aload 10, 2) := dk_25 10 (dk_at dksJ4_putVal_8 0 rfl rfl)
theorem dJ4_putVal_186 : decode cJ4_putVal 186 = .ok (.getfield 170, 3) := dk_180 0 170 (dk_at dksJ4_putVal_8 2 rfl rfl)
theorem dJ4_putVal_189 : decode cJ4_putVal 189 = .ok (.dup, 1) := dk_89 (dk_at dksJ4_putVal_8 5 rfl rfl)
theorem dJ4_putVal_190 : decode cJ4_putVal 190 = .ok (.astore 11, 2) := dk_58 11 (dk_at dksJ4_putVal_8 6 rfl rfl)
theorem dJ4_putVal_192 : decode cJ4_putVal 192 = .ok (.aload_n 2, 1) := dk_44 (dk_at dksJ4_putVal_8 8 rfl rfl)
theorem dJ4_putVal_193 : decode cJ4_putVal 193 = .ok (.if_acmp .eq 29, 3) := dk_165 0 29 (dk_at dksJ4_putVal_8 9 rfl rfl)
theorem dJ4_putVal_196 : decode cJ4_putVal 196 = .ok (.aload_n 2, 1) := dk_44 (dk_at dksJ4_putVal_8 12 rfl rfl)
theorem dJ4_putVal_197 : decode cJ4_putVal 197 = .ok (.ifnull 15, 3) := dk_198 0 15 (dk_at dksJ4_putVal_8 13 rfl rfl)
theorem dJ4_putVal_200 : decode cJ4_putVal 200 = .ok (.aload_n 2, 1) := dk_44 (dk_at dksJ4_putVal_8 16 rfl rfl)
theorem dJ4_putVal_201 : decode cJ4_putVal 201 = .ok (.aload 11, 2) := dk_25 11 (dk_at dksJ4_putVal_8 17 rfl rfl)
theorem dJ4_putVal_203 : decode cJ4_putVal 203 = .ok (.invokevirtual 173, 3) := dk_182 0 173 (dk_at dksJ4_putVal_8 19 rfl rfl)
theorem dJ4_putVal_206 : decode cJ4_putVal 206 = .ok (.ifCond .eq 6, 3) := dk_153 0 6 (dk_at dksJ4_putVal_9 0 rfl rfl)
theorem dJ4_putVal_209 : decode cJ4_putVal 209 = .ok (.goto 13, 3) := dk_167 0 13 (dk_at dksJ4_putVal_9 3 rfl rfl)
theorem dJ4_putVal_212 : decode cJ4_putVal 212 = .ok (.aload 10, 2) := dk_25 10 (dk_at dksJ4_putVal_9 6 rfl rfl)
theorem dJ4_putVal_214 : decode cJ4_putVal 214 = .ok (.astore 7, 2) := dk_58 7 (dk_at dksJ4_putVal_9 8 rfl rfl)
theorem dJ4_putVal_216 : decode cJ4_putVal 216 = .ok (.iinc 12 1, 3) := dk_132 12 1 (dk_at dksJ4_putVal_9 10 rfl rfl)
theorem dJ4_putVal_219 : decode cJ4_putVal 219 = .ok (.goto (-85), 3) := dk_167 255 171 (dk_at dksJ4_putVal_9 13 rfl rfl)
theorem dJ4_putVal_222 : decode cJ4_putVal 222 = .ok (.aload 10, 2) := dk_25 10 (dk_at dksJ4_putVal_9 16 rfl rfl)
theorem dJ4_putVal_224 : decode cJ4_putVal 224 = .ok (.ifnull 35, 3) := dk_198 0 35 (dk_at dksJ4_putVal_9 18 rfl rfl)
theorem dJ4_putVal_227 : decode cJ4_putVal 227 = .ok (.aload 10, 2) := dk_25 10 (dk_at dksJ4_putVal_9 21 rfl rfl)
theorem dJ4_putVal_229 : decode cJ4_putVal 229 = .ok (.getfield 162, 3) := dk_180 0 162 (dk_at dksJ4_putVal_10 0 rfl rfl)
theorem dJ4_putVal_232 : decode cJ4_putVal 232 = .ok (.astore 12, 2) := dk_58 12 (dk_at dksJ4_putVal_10 3 rfl rfl)
theorem dJ4_putVal_234 : decode cJ4_putVal 234 = .ok (.iload 4, 2) := dk_21 4 (dk_at dksJ4_putVal_10 5 rfl rfl)
theorem dJ4_putVal_236 : decode cJ4_putVal 236 = .ok (.ifCond .eq 8, 3) := dk_153 0 8 (dk_at dksJ4_putVal_10 7 rfl rfl)
theorem dJ4_putVal_239 : decode cJ4_putVal 239 = .ok (.aload 12, 2) := dk_25 12 (dk_at dksJ4_putVal_10 10 rfl rfl)
theorem dJ4_putVal_241 : decode cJ4_putVal 241 = .ok (.ifnonnull 9, 3) := dk_199 0 9 (dk_at dksJ4_putVal_10 12 rfl rfl)
theorem dJ4_putVal_244 : decode cJ4_putVal 244 = .ok (.aload 10, 2) := dk_25 10 (dk_at dksJ4_putVal_10 15 rfl rfl)
theorem dJ4_putVal_246 : decode cJ4_putVal 246 = .ok (.aload_n 3, 1) := dk_45 (dk_at dksJ4_putVal_10 17 rfl rfl)
theorem dJ4_putVal_247 : decode cJ4_putVal 247 = .ok (.putfield 162, 3) := dk_181 0 162 (dk_at dksJ4_putVal_10 18 rfl rfl)
theorem dJ4_putVal_250 : decode cJ4_putVal 250 = .ok (.aload_n 0, 1) := dk_42 (dk_at dksJ4_putVal_10 21 rfl rfl)
theorem dJ4_putVal_251 : decode cJ4_putVal 251 = .ok (.aload 10, 2) := dk_25 10 (dk_at dksJ4_putVal_10 22 rfl rfl)
theorem dJ4_putVal_253 : decode cJ4_putVal 253 = .ok (.invokevirtual 198, 3) := dk_182 0 198 (dk_at dksJ4_putVal_11 0 rfl rfl)
theorem dJ4_putVal_256 : decode cJ4_putVal 256 = .ok (.aload 12, 2) := dk_25 12 (dk_at dksJ4_putVal_11 3 rfl rfl)
theorem dJ4_putVal_258 : decode cJ4_putVal 258 = .ok (.areturn, 1) := dk_176 (dk_at dksJ4_putVal_11 5 rfl rfl)
theorem dJ4_putVal_259 : decode cJ4_putVal 259 = .ok (.aload_n 0, 1) := dk_42 (dk_at dksJ4_putVal_11 6 rfl rfl)
theorem dJ4_putVal_260 : decode cJ4_putVal 260 = .ok (.dup, 1) := dk_89 (dk_at dksJ4_putVal_11 7 rfl rfl)
theorem dJ4_putVal_261 : decode cJ4_putVal 261 = .ok (.getfield 202, 3) := dk_180 0 202 (dk_at dksJ4_putVal_11 8 rfl rfl)
theorem dJ4_putVal_264 : decode cJ4_putVal 264 = .ok (.iconst 1, 1) := dk_4 (dk_at dksJ4_putVal_11 11 rfl rfl)
theorem dJ4_putVal_265 : decode cJ4_putVal 265 = .ok (.iadd, 1) := dk_96 (dk_at dksJ4_putVal_11 12 rfl rfl)
theorem dJ4_putVal_266 : decode cJ4_putVal 266 = .ok (.putfield 202, 3) := dk_181 0 202 (dk_at dksJ4_putVal_11 13 rfl rfl)
theorem dJ4_putVal_269 : decode cJ4_putVal 269 = .ok (.aload_n 0, 1) := dk_42 (dk_at dksJ4_putVal_11 16 rfl rfl)
theorem dJ4_putVal_270 : decode cJ4_putVal 270 = .ok (.dup, 1) := dk_89 (dk_at dksJ4_putVal_11 17 rfl rfl)
theorem dJ4_putVal_271 : decode cJ4_putVal 271 = .ok (.getfield 156, 3) := dk_180 0 156 (dk_at dksJ4_putVal_11 18 rfl rfl)
theorem dJ4_putVal_274 : decode cJ4_putVal 274 = .ok (.iconst 1, 1) := dk_4 (dk_at dksJ4_putVal_11 21 rfl rfl)
theorem dJ4_putVal_275 : decode cJ4_putVal 275 = .ok (.iadd, 1) := dk_96 (dk_at dksJ4_putVal_11 22 rfl rfl)
theorem dJ4_putVal_276 : decode cJ4_putVal 276 = .ok (.dup_x1, 1) := dk_90 (dk_at dksJ4_putVal_11 23 rfl rfl)
theorem dJ4_putVal_277 : decode cJ4_putVal 277 = .ok (.putfield 156, 3) := dk_181 0 156 (dk_at dksJ4_putVal_12 0 rfl rfl)
theorem dJ4_putVal_280 : decode cJ4_putVal 280 = .ok (.aload_n 0, 1) := dk_42 (dk_at dksJ4_putVal_12 3 rfl rfl)
theorem dJ4_putVal_281 : decode cJ4_putVal 281 = .ok (.getfield 88, 3) := dk_180 0 88 (dk_at dksJ4_putVal_12 4 rfl rfl)
theorem dJ4_putVal_284 : decode cJ4_putVal 284 = .ok (.if_icmp .le 8, 3) := dk_164 0 8 (dk_at dksJ4_putVal_12 7 rfl rfl)
theorem dJ4_putVal_287 : decode cJ4_putVal 287 = .ok (.aload_n 0, 1) := dk_42 (dk_at dksJ4_putVal_12 10 rfl rfl)
theorem dJ4_putVal_288 : decode cJ4_putVal 288 = .ok (.invokevirtual 117, 3) := dk_182 0 117 (dk_at dksJ4_putVal_12 11 rfl rfl)
theorem dJ4_putVal_291 : decode cJ4_putVal 291 = .ok (.pop, 1) := dk_87 (dk_at dksJ4_putVal_12 14 rfl rfl)
theorem dJ4_putVal_292 : decode cJ4_putVal 292 = .ok (.aload_n 0, 1) := dk_42 (dk_at dksJ4_putVal_12 15 rfl rfl)
theorem dJ4_putVal_293 : decode cJ4_putVal 293 = .ok (.iload 5, 2) := dk_21 5 (dk_at dksJ4_putVal_12 16 rfl rfl)
theorem dJ4_putVal_295 : decode cJ4_putVal 295 = .ok (.invokevirtual 205, 3) := dk_182 0 205 (dk_at dksJ4_putVal_12 18 rfl rfl)
theorem dJ4_putVal_298 : decode cJ4_putVal 298 = .ok (.aconst_null, 1) := dk_1 (dk_at dksJ4_putVal_12 21 rfl rfl)
theorem dJ4_putVal_299 : decode cJ4_putVal 299 = .ok (.areturn, 1) := dk_176 (dk_at dksJ4_putVal_12 22 rfl rfl)
abbrev cJ4_resize : ByteArray := prog_39_method_17_code
def yJ4_resize : MethodName := ⟨RJ4, "resize", "()[Ljava/util/HashMap$Node;"⟩
def dkwJ4_resize_15 : List UInt8 := [25, 6, 176]
abbrev dktJ4_resize_15 : List UInt8 := dkwJ4_resize_15 ++ []
def dkwJ4_resize_14 : List UInt8 := [198, 0, 18, 25, 12, 1, 181, 0, 177, 25, 6, 21, 7, 28, 96, 25, 11, 83, 132, 7, 1, 167, 255, 57]
abbrev dktJ4_resize_14 : List UInt8 := dkwJ4_resize_14 ++ dktJ4_resize_15
def dkwJ4_resize_13 : List UInt8 := [199, 255, 185, 25, 10, 198, 0, 16, 25, 10, 1, 181, 0, 177, 25, 6, 21, 7, 25, 9, 83, 25, 12]
abbrev dktJ4_resize_13 : List UInt8 := dkwJ4_resize_13 ++ dktJ4_resize_14
def dkwJ4_resize_12 : List UInt8 := [25, 8, 58, 11, 167, 0, 10, 25, 12, 25, 8, 181, 0, 177, 25, 8, 58, 12, 25, 13, 89, 58, 8]
abbrev dktJ4_resize_12 : List UInt8 := dkwJ4_resize_12 ++ dktJ4_resize_13
def dkwJ4_resize_11 : List UInt8 := [58, 9, 167, 0, 10, 25, 10, 25, 8, 181, 0, 177, 25, 8, 58, 10, 167, 0, 26, 25, 12, 199, 0, 10]
abbrev dktJ4_resize_11 : List UInt8 := dkwJ4_resize_11 ++ dktJ4_resize_12
def dkwJ4_resize_10 : List UInt8 := [25, 8, 180, 0, 177, 58, 13, 25, 8, 180, 0, 168, 28, 126, 154, 0, 29, 25, 10, 199, 0, 10, 25, 8]
abbrev dktJ4_resize_10 : List UInt8 := dkwJ4_resize_10 ++ dktJ4_resize_11
def dkwJ4_resize_9 : List UInt8 := [42, 25, 6, 21, 7, 28, 182, 0, 211, 167, 0, 127, 1, 58, 9, 1, 58, 10, 1, 58, 11, 1, 58, 12]
abbrev dktJ4_resize_9 : List UInt8 := dkwJ4_resize_9 ++ dktJ4_resize_10
def dkwJ4_resize_8 : List UInt8 := [21, 4, 4, 100, 126, 25, 8, 83, 167, 0, 152, 25, 8, 193, 0, 180, 153, 0, 20, 25, 8, 192, 0, 180]
abbrev dktJ4_resize_8 : List UInt8 := dkwJ4_resize_8 ++ dktJ4_resize_9
def dkwJ4_resize_7 : List UInt8 := [198, 0, 183, 43, 21, 7, 1, 83, 25, 8, 180, 0, 177, 199, 0, 21, 25, 6, 25, 8, 180, 0, 168]
abbrev dktJ4_resize_7 : List UInt8 := dkwJ4_resize_7 ++ dktJ4_resize_8
def dkwJ4_resize_6 : List UInt8 := [181, 0, 105, 43, 198, 0, 208, 3, 54, 7, 21, 7, 28, 162, 0, 199, 43, 21, 7, 50, 89, 58, 8]
abbrev dktJ4_resize_6 : List UInt8 := dkwJ4_resize_6 ++ dktJ4_resize_7
def dkwJ4_resize_5 : List UInt8 := [167, 0, 5, 18, 209, 54, 5, 42, 21, 5, 181, 0, 88, 21, 4, 189, 0, 163, 58, 6, 42, 25, 6]
abbrev dktJ4_resize_5 : List UInt8 := dkwJ4_resize_5 ++ dktJ4_resize_6
def dkwJ4_resize_4 : List UInt8 := [180, 0, 81, 106, 56, 6, 21, 4, 18, 42, 162, 0, 17, 23, 6, 18, 210, 150, 156, 0, 9, 23, 6, 139]
abbrev dktJ4_resize_4 : List UInt8 := dkwJ4_resize_4 ++ dktJ4_resize_5
def dkwJ4_resize_3 : List UInt8 := [54, 4, 167, 0, 11, 16, 16, 54, 4, 16, 12, 54, 5, 21, 5, 154, 0, 38, 21, 4, 134, 42]
abbrev dktJ4_resize_3 : List UInt8 := dkwJ4_resize_3 ++ dktJ4_resize_4
def dkwJ4_resize_2 : List UInt8 := [18, 42, 162, 0, 35, 28, 16, 16, 161, 0, 29, 29, 4, 120, 54, 5, 167, 0, 21, 29, 158, 0, 9, 29]
abbrev dktJ4_resize_2 : List UInt8 := dkwJ4_resize_2 ++ dktJ4_resize_3
def dkwJ4_resize_1 : List UInt8 := [28, 158, 0, 42, 28, 18, 42, 161, 0, 11, 42, 18, 209, 181, 0, 88, 43, 176, 28, 4, 120, 89, 54, 4]
abbrev dktJ4_resize_1 : List UInt8 := dkwJ4_resize_1 ++ dktJ4_resize_2
def dkwJ4_resize_0 : List UInt8 := [42, 180, 0, 105, 76, 43, 199, 0, 7, 3, 167, 0, 5, 43, 190, 61, 42, 180, 0, 88, 62, 3, 54, 5]
abbrev dktJ4_resize_0 : List UInt8 := dkwJ4_resize_0 ++ dktJ4_resize_1
theorem dksJ4_resize_0 : cJ4_resize.data.toList.drop 0 = dktJ4_resize_0 := by decide +kernel
theorem dksJ4_resize_1 : cJ4_resize.data.toList.drop 24 = dktJ4_resize_1 := dk_seg dksJ4_resize_0 24 rfl rfl
theorem dksJ4_resize_2 : cJ4_resize.data.toList.drop 48 = dktJ4_resize_2 := dk_seg dksJ4_resize_1 24 rfl rfl
theorem dksJ4_resize_3 : cJ4_resize.data.toList.drop 72 = dktJ4_resize_3 := dk_seg dksJ4_resize_2 24 rfl rfl
theorem dksJ4_resize_4 : cJ4_resize.data.toList.drop 94 = dktJ4_resize_4 := dk_seg dksJ4_resize_3 22 rfl rfl
theorem dksJ4_resize_5 : cJ4_resize.data.toList.drop 118 = dktJ4_resize_5 := dk_seg dksJ4_resize_4 24 rfl rfl
theorem dksJ4_resize_6 : cJ4_resize.data.toList.drop 141 = dktJ4_resize_6 := dk_seg dksJ4_resize_5 23 rfl rfl
theorem dksJ4_resize_7 : cJ4_resize.data.toList.drop 164 = dktJ4_resize_7 := dk_seg dksJ4_resize_6 23 rfl rfl
theorem dksJ4_resize_8 : cJ4_resize.data.toList.drop 187 = dktJ4_resize_8 := dk_seg dksJ4_resize_7 23 rfl rfl
theorem dksJ4_resize_9 : cJ4_resize.data.toList.drop 211 = dktJ4_resize_9 := dk_seg dksJ4_resize_8 24 rfl rfl
theorem dksJ4_resize_10 : cJ4_resize.data.toList.drop 235 = dktJ4_resize_10 := dk_seg dksJ4_resize_9 24 rfl rfl
theorem dksJ4_resize_11 : cJ4_resize.data.toList.drop 259 = dktJ4_resize_11 := dk_seg dksJ4_resize_10 24 rfl rfl
theorem dksJ4_resize_12 : cJ4_resize.data.toList.drop 283 = dktJ4_resize_12 := dk_seg dksJ4_resize_11 24 rfl rfl
theorem dksJ4_resize_13 : cJ4_resize.data.toList.drop 306 = dktJ4_resize_13 := dk_seg dksJ4_resize_12 23 rfl rfl
theorem dksJ4_resize_14 : cJ4_resize.data.toList.drop 329 = dktJ4_resize_14 := dk_seg dksJ4_resize_13 23 rfl rfl
theorem dksJ4_resize_15 : cJ4_resize.data.toList.drop 353 = dktJ4_resize_15 := dk_seg dksJ4_resize_14 24 rfl rfl
theorem dJ4_resize_0 : decode cJ4_resize 0 = .ok (.aload_n 0, 1) := dk_42 (dk_at dksJ4_resize_0 0 rfl rfl)
theorem dJ4_resize_1 : decode cJ4_resize 1 = .ok (.getfield 105, 3) := dk_180 0 105 (dk_at dksJ4_resize_0 1 rfl rfl)
theorem dJ4_resize_4 : decode cJ4_resize 4 = .ok (.astore_n 1, 1) := dk_76 (dk_at dksJ4_resize_0 4 rfl rfl)
theorem dJ4_resize_5 : decode cJ4_resize 5 = .ok (.aload_n 1, 1) := dk_43 (dk_at dksJ4_resize_0 5 rfl rfl)
theorem dJ4_resize_6 : decode cJ4_resize 6 = .ok (.ifnonnull 7, 3) := dk_199 0 7 (dk_at dksJ4_resize_0 6 rfl rfl)
theorem dJ4_resize_9 : decode cJ4_resize 9 = .ok (.iconst 0, 1) := dk_3 (dk_at dksJ4_resize_0 9 rfl rfl)
theorem dJ4_resize_10 : decode cJ4_resize 10 = .ok (.goto 5, 3) := dk_167 0 5 (dk_at dksJ4_resize_0 10 rfl rfl)
theorem dJ4_resize_13 : decode cJ4_resize 13 = .ok (.aload_n 1, 1) := dk_43 (dk_at dksJ4_resize_0 13 rfl rfl)
theorem dJ4_resize_14 : decode cJ4_resize 14 = .ok (.arraylength, 1) := dk_190 (dk_at dksJ4_resize_0 14 rfl rfl)
theorem dJ4_resize_15 : decode cJ4_resize 15 = .ok (.istore_n 2, 1) := dk_61 (dk_at dksJ4_resize_0 15 rfl rfl)
theorem dJ4_resize_16 : decode cJ4_resize 16 = .ok (.aload_n 0, 1) := dk_42 (dk_at dksJ4_resize_0 16 rfl rfl)
theorem dJ4_resize_17 : decode cJ4_resize 17 = .ok (.getfield 88, 3) := dk_180 0 88 (dk_at dksJ4_resize_0 17 rfl rfl)
theorem dJ4_resize_20 : decode cJ4_resize 20 = .ok (.istore_n 3, 1) := dk_62 (dk_at dksJ4_resize_0 20 rfl rfl)
theorem dJ4_resize_21 : decode cJ4_resize 21 = .ok (.iconst 0, 1) := dk_3 (dk_at dksJ4_resize_0 21 rfl rfl)
theorem dJ4_resize_22 : decode cJ4_resize 22 = .ok (.istore 5, 2) := dk_54 5 (dk_at dksJ4_resize_0 22 rfl rfl)
theorem dJ4_resize_24 : decode cJ4_resize 24 = .ok (.iload_n 2, 1) := dk_28 (dk_at dksJ4_resize_1 0 rfl rfl)
theorem dJ4_resize_25 : decode cJ4_resize 25 = .ok (.ifCond .le 42, 3) := dk_158 0 42 (dk_at dksJ4_resize_1 1 rfl rfl)
theorem dJ4_resize_28 : decode cJ4_resize 28 = .ok (.iload_n 2, 1) := dk_28 (dk_at dksJ4_resize_1 4 rfl rfl)
theorem dJ4_resize_29 : decode cJ4_resize 29 = .ok (.ldc 42, 2) := dk_18 42 (dk_at dksJ4_resize_1 5 rfl rfl)
theorem dJ4_resize_31 : decode cJ4_resize 31 = .ok (.if_icmp .lt 11, 3) := dk_161 0 11 (dk_at dksJ4_resize_1 7 rfl rfl)
theorem dJ4_resize_34 : decode cJ4_resize 34 = .ok (.aload_n 0, 1) := dk_42 (dk_at dksJ4_resize_1 10 rfl rfl)
theorem dJ4_resize_35 : decode cJ4_resize 35 = .ok (.ldc 209, 2) := dk_18 209 (dk_at dksJ4_resize_1 11 rfl rfl)
theorem dJ4_resize_37 : decode cJ4_resize 37 = .ok (.putfield 88, 3) := dk_181 0 88 (dk_at dksJ4_resize_1 13 rfl rfl)
theorem dJ4_resize_40 : decode cJ4_resize 40 = .ok (.aload_n 1, 1) := dk_43 (dk_at dksJ4_resize_1 16 rfl rfl)
theorem dJ4_resize_41 : decode cJ4_resize 41 = .ok (.areturn, 1) := dk_176 (dk_at dksJ4_resize_1 17 rfl rfl)
theorem dJ4_resize_42 : decode cJ4_resize 42 = .ok (.iload_n 2, 1) := dk_28 (dk_at dksJ4_resize_1 18 rfl rfl)
theorem dJ4_resize_43 : decode cJ4_resize 43 = .ok (.iconst 1, 1) := dk_4 (dk_at dksJ4_resize_1 19 rfl rfl)
theorem dJ4_resize_44 : decode cJ4_resize 44 = .ok (.ishl, 1) := dk_120 (dk_at dksJ4_resize_1 20 rfl rfl)
theorem dJ4_resize_45 : decode cJ4_resize 45 = .ok (.dup, 1) := dk_89 (dk_at dksJ4_resize_1 21 rfl rfl)
theorem dJ4_resize_46 : decode cJ4_resize 46 = .ok (.istore 4, 2) := dk_54 4 (dk_at dksJ4_resize_1 22 rfl rfl)
theorem dJ4_resize_48 : decode cJ4_resize 48 = .ok (.ldc 42, 2) := dk_18 42 (dk_at dksJ4_resize_2 0 rfl rfl)
theorem dJ4_resize_50 : decode cJ4_resize 50 = .ok (.if_icmp .ge 35, 3) := dk_162 0 35 (dk_at dksJ4_resize_2 2 rfl rfl)
theorem dJ4_resize_53 : decode cJ4_resize 53 = .ok (.iload_n 2, 1) := dk_28 (dk_at dksJ4_resize_2 5 rfl rfl)
theorem dJ4_resize_54 : decode cJ4_resize 54 = .ok (.bipush 16, 2) := dk_16 16 (dk_at dksJ4_resize_2 6 rfl rfl)
theorem dJ4_resize_56 : decode cJ4_resize 56 = .ok (.if_icmp .lt 29, 3) := dk_161 0 29 (dk_at dksJ4_resize_2 8 rfl rfl)
theorem dJ4_resize_59 : decode cJ4_resize 59 = .ok (.iload_n 3, 1) := dk_29 (dk_at dksJ4_resize_2 11 rfl rfl)
theorem dJ4_resize_60 : decode cJ4_resize 60 = .ok (.iconst 1, 1) := dk_4 (dk_at dksJ4_resize_2 12 rfl rfl)
theorem dJ4_resize_61 : decode cJ4_resize 61 = .ok (.ishl, 1) := dk_120 (dk_at dksJ4_resize_2 13 rfl rfl)
theorem dJ4_resize_62 : decode cJ4_resize 62 = .ok (.istore 5, 2) := dk_54 5 (dk_at dksJ4_resize_2 14 rfl rfl)
theorem dJ4_resize_64 : decode cJ4_resize 64 = .ok (.goto 21, 3) := dk_167 0 21 (dk_at dksJ4_resize_2 16 rfl rfl)
theorem dJ4_resize_67 : decode cJ4_resize 67 = .ok (.iload_n 3, 1) := dk_29 (dk_at dksJ4_resize_2 19 rfl rfl)
theorem dJ4_resize_68 : decode cJ4_resize 68 = .ok (.ifCond .le 9, 3) := dk_158 0 9 (dk_at dksJ4_resize_2 20 rfl rfl)
theorem dJ4_resize_71 : decode cJ4_resize 71 = .ok (.iload_n 3, 1) := dk_29 (dk_at dksJ4_resize_2 23 rfl rfl)
theorem dJ4_resize_72 : decode cJ4_resize 72 = .ok (.istore 4, 2) := dk_54 4 (dk_at dksJ4_resize_3 0 rfl rfl)
theorem dJ4_resize_74 : decode cJ4_resize 74 = .ok (.goto 11, 3) := dk_167 0 11 (dk_at dksJ4_resize_3 2 rfl rfl)
theorem dJ4_resize_77 : decode cJ4_resize 77 = .ok (.bipush 16, 2) := dk_16 16 (dk_at dksJ4_resize_3 5 rfl rfl)
theorem dJ4_resize_79 : decode cJ4_resize 79 = .ok (.istore 4, 2) := dk_54 4 (dk_at dksJ4_resize_3 7 rfl rfl)
theorem dJ4_resize_81 : decode cJ4_resize 81 = .ok (.bipush 12, 2) := dk_16 12 (dk_at dksJ4_resize_3 9 rfl rfl)
theorem dJ4_resize_83 : decode cJ4_resize 83 = .ok (.istore 5, 2) := dk_54 5 (dk_at dksJ4_resize_3 11 rfl rfl)
theorem dJ4_resize_85 : decode cJ4_resize 85 = .ok (.iload 5, 2) := dk_21 5 (dk_at dksJ4_resize_3 13 rfl rfl)
theorem dJ4_resize_87 : decode cJ4_resize 87 = .ok (.ifCond .ne 38, 3) := dk_154 0 38 (dk_at dksJ4_resize_3 15 rfl rfl)
theorem dJ4_resize_90 : decode cJ4_resize 90 = .ok (.iload 4, 2) := dk_21 4 (dk_at dksJ4_resize_3 18 rfl rfl)
theorem dJ4_resize_92 : decode cJ4_resize 92 = .ok (.i2f, 1) := dk_134 (dk_at dksJ4_resize_3 20 rfl rfl)
theorem dJ4_resize_93 : decode cJ4_resize 93 = .ok (.aload_n 0, 1) := dk_42 (dk_at dksJ4_resize_3 21 rfl rfl)
theorem dJ4_resize_94 : decode cJ4_resize 94 = .ok (.getfield 81, 3) := dk_180 0 81 (dk_at dksJ4_resize_4 0 rfl rfl)
theorem dJ4_resize_97 : decode cJ4_resize 97 = .ok (.fmul, 1) := dk_106 (dk_at dksJ4_resize_4 3 rfl rfl)
theorem dJ4_resize_98 : decode cJ4_resize 98 = .ok (.fstore 6, 2) := dk_56 6 (dk_at dksJ4_resize_4 4 rfl rfl)
theorem dJ4_resize_100 : decode cJ4_resize 100 = .ok (.iload 4, 2) := dk_21 4 (dk_at dksJ4_resize_4 6 rfl rfl)
theorem dJ4_resize_102 : decode cJ4_resize 102 = .ok (.ldc 42, 2) := dk_18 42 (dk_at dksJ4_resize_4 8 rfl rfl)
theorem dJ4_resize_104 : decode cJ4_resize 104 = .ok (.if_icmp .ge 17, 3) := dk_162 0 17 (dk_at dksJ4_resize_4 10 rfl rfl)
theorem dJ4_resize_107 : decode cJ4_resize 107 = .ok (.fload 6, 2) := dk_23 6 (dk_at dksJ4_resize_4 13 rfl rfl)
theorem dJ4_resize_109 : decode cJ4_resize 109 = .ok (.ldc 210, 2) := dk_18 210 (dk_at dksJ4_resize_4 15 rfl rfl)
theorem dJ4_resize_111 : decode cJ4_resize 111 = .ok (.fcmp .g, 1) := dk_150 (dk_at dksJ4_resize_4 17 rfl rfl)
theorem dJ4_resize_112 : decode cJ4_resize 112 = .ok (.ifCond .ge 9, 3) := dk_156 0 9 (dk_at dksJ4_resize_4 18 rfl rfl)
theorem dJ4_resize_115 : decode cJ4_resize 115 = .ok (.fload 6, 2) := dk_23 6 (dk_at dksJ4_resize_4 21 rfl rfl)
theorem dJ4_resize_117 : decode cJ4_resize 117 = .ok (.f2i, 1) := dk_139 (dk_at dksJ4_resize_4 23 rfl rfl)
theorem dJ4_resize_118 : decode cJ4_resize 118 = .ok (.goto 5, 3) := dk_167 0 5 (dk_at dksJ4_resize_5 0 rfl rfl)
theorem dJ4_resize_121 : decode cJ4_resize 121 = .ok (.ldc 209, 2) := dk_18 209 (dk_at dksJ4_resize_5 3 rfl rfl)
theorem dJ4_resize_123 : decode cJ4_resize 123 = .ok (.istore 5, 2) := dk_54 5 (dk_at dksJ4_resize_5 5 rfl rfl)
theorem dJ4_resize_125 : decode cJ4_resize 125 = .ok (.aload_n 0, 1) := dk_42 (dk_at dksJ4_resize_5 7 rfl rfl)
theorem dJ4_resize_126 : decode cJ4_resize 126 = .ok (.iload 5, 2) := dk_21 5 (dk_at dksJ4_resize_5 8 rfl rfl)
theorem dJ4_resize_128 : decode cJ4_resize 128 = .ok (.putfield 88, 3) := dk_181 0 88 (dk_at dksJ4_resize_5 10 rfl rfl)
theorem dJ4_resize_131 : decode cJ4_resize 131 = .ok (.iload 4, 2) := dk_21 4 (dk_at dksJ4_resize_5 13 rfl rfl)
theorem dJ4_resize_133 : decode cJ4_resize 133 = .ok (.anewarray 163, 3) := dk_189 0 163 (dk_at dksJ4_resize_5 15 rfl rfl)
theorem dJ4_resize_136 : decode cJ4_resize 136 = .ok (.astore 6, 2) := dk_58 6 (dk_at dksJ4_resize_5 18 rfl rfl)
theorem dJ4_resize_138 : decode cJ4_resize 138 = .ok (.aload_n 0, 1) := dk_42 (dk_at dksJ4_resize_5 20 rfl rfl)
theorem dJ4_resize_139 : decode cJ4_resize 139 = .ok (.aload 6, 2) := dk_25 6 (dk_at dksJ4_resize_5 21 rfl rfl)
theorem dJ4_resize_141 : decode cJ4_resize 141 = .ok (.putfield 105, 3) := dk_181 0 105 (dk_at dksJ4_resize_6 0 rfl rfl)
theorem dJ4_resize_144 : decode cJ4_resize 144 = .ok (.aload_n 1, 1) := dk_43 (dk_at dksJ4_resize_6 3 rfl rfl)
theorem dJ4_resize_145 : decode cJ4_resize 145 = .ok (.ifnull 208, 3) := dk_198 0 208 (dk_at dksJ4_resize_6 4 rfl rfl)
theorem dJ4_resize_148 : decode cJ4_resize 148 = .ok (.iconst 0, 1) := dk_3 (dk_at dksJ4_resize_6 7 rfl rfl)
theorem dJ4_resize_149 : decode cJ4_resize 149 = .ok (.istore 7, 2) := dk_54 7 (dk_at dksJ4_resize_6 8 rfl rfl)
theorem dJ4_resize_151 : decode cJ4_resize 151 = .ok (.iload 7, 2) := dk_21 7 (dk_at dksJ4_resize_6 10 rfl rfl)
theorem dJ4_resize_153 : decode cJ4_resize 153 = .ok (.iload_n 2, 1) := dk_28 (dk_at dksJ4_resize_6 12 rfl rfl)
theorem dJ4_resize_154 : decode cJ4_resize 154 = .ok (.if_icmp .ge 199, 3) := dk_162 0 199 (dk_at dksJ4_resize_6 13 rfl rfl)
theorem dJ4_resize_157 : decode cJ4_resize 157 = .ok (.aload_n 1, 1) := dk_43 (dk_at dksJ4_resize_6 16 rfl rfl)
theorem dJ4_resize_158 : decode cJ4_resize 158 = .ok (.iload 7, 2) := dk_21 7 (dk_at dksJ4_resize_6 17 rfl rfl)
theorem dJ4_resize_160 : decode cJ4_resize 160 = .ok (.aaload, 1) := dk_50 (dk_at dksJ4_resize_6 19 rfl rfl)
theorem dJ4_resize_161 : decode cJ4_resize 161 = .ok (.dup, 1) := dk_89 (dk_at dksJ4_resize_6 20 rfl rfl)
theorem dJ4_resize_162 : decode cJ4_resize 162 = .ok (.astore 8, 2) := dk_58 8 (dk_at dksJ4_resize_6 21 rfl rfl)
theorem dJ4_resize_164 : decode cJ4_resize 164 = .ok (.ifnull 183, 3) := dk_198 0 183 (dk_at dksJ4_resize_7 0 rfl rfl)
theorem dJ4_resize_167 : decode cJ4_resize 167 = .ok (.aload_n 1, 1) := dk_43 (dk_at dksJ4_resize_7 3 rfl rfl)
theorem dJ4_resize_168 : decode cJ4_resize 168 = .ok (.iload 7, 2) := dk_21 7 (dk_at dksJ4_resize_7 4 rfl rfl)
theorem dJ4_resize_170 : decode cJ4_resize 170 = .ok (.aconst_null, 1) := dk_1 (dk_at dksJ4_resize_7 6 rfl rfl)
theorem dJ4_resize_171 : decode cJ4_resize 171 = .ok (.aastore, 1) := dk_83 (dk_at dksJ4_resize_7 7 rfl rfl)
theorem dJ4_resize_172 : decode cJ4_resize 172 = .ok (.aload 8, 2) := dk_25 8 (dk_at dksJ4_resize_7 8 rfl rfl)
theorem dJ4_resize_174 : decode cJ4_resize 174 = .ok (.getfield 177, 3) := dk_180 0 177 (dk_at dksJ4_resize_7 10 rfl rfl)
theorem dJ4_resize_177 : decode cJ4_resize 177 = .ok (.ifnonnull 21, 3) := dk_199 0 21 (dk_at dksJ4_resize_7 13 rfl rfl)
theorem dJ4_resize_180 : decode cJ4_resize 180 = .ok (.aload 6, 2) := dk_25 6 (dk_at dksJ4_resize_7 16 rfl rfl)
theorem dJ4_resize_182 : decode cJ4_resize 182 = .ok (.aload 8, 2) := dk_25 8 (dk_at dksJ4_resize_7 18 rfl rfl)
theorem dJ4_resize_184 : decode cJ4_resize 184 = .ok (.getfield 168, 3) := dk_180 0 168 (dk_at dksJ4_resize_7 20 rfl rfl)
theorem dJ4_resize_187 : decode cJ4_resize 187 = .ok (.iload 4, 2) := dk_21 4 (dk_at dksJ4_resize_8 0 rfl rfl)
theorem dJ4_resize_189 : decode cJ4_resize 189 = .ok (.iconst 1, 1) := dk_4 (dk_at dksJ4_resize_8 2 rfl rfl)
theorem dJ4_resize_190 : decode cJ4_resize 190 = .ok (.isub, 1) := dk_100 (dk_at dksJ4_resize_8 3 rfl rfl)
theorem dJ4_resize_191 : decode cJ4_resize 191 = .ok (.iand, 1) := dk_126 (dk_at dksJ4_resize_8 4 rfl rfl)
theorem dJ4_resize_192 : decode cJ4_resize 192 = .ok (.aload 8, 2) := dk_25 8 (dk_at dksJ4_resize_8 5 rfl rfl)
theorem dJ4_resize_194 : decode cJ4_resize 194 = .ok (.aastore, 1) := dk_83 (dk_at dksJ4_resize_8 7 rfl rfl)
theorem dJ4_resize_195 : decode cJ4_resize 195 = .ok (.goto 152, 3) := dk_167 0 152 (dk_at dksJ4_resize_8 8 rfl rfl)
theorem dJ4_resize_198 : decode cJ4_resize 198 = .ok (.aload 8, 2) := dk_25 8 (dk_at dksJ4_resize_8 11 rfl rfl)
theorem dJ4_resize_200 : decode cJ4_resize 200 = .ok (.instanceof 180, 3) := dk_193 0 180 (dk_at dksJ4_resize_8 13 rfl rfl)
theorem dJ4_resize_203 : decode cJ4_resize 203 = .ok (.ifCond .eq 20, 3) := dk_153 0 20 (dk_at dksJ4_resize_8 16 rfl rfl)
theorem dJ4_resize_206 : decode cJ4_resize 206 = .ok (.aload 8, 2) := dk_25 8 (dk_at dksJ4_resize_8 19 rfl rfl)
theorem dJ4_resize_208 : decode cJ4_resize 208 = .ok (.checkcast 180, 3) := dk_192 0 180 (dk_at dksJ4_resize_8 21 rfl rfl)
theorem dJ4_resize_211 : decode cJ4_resize 211 = .ok (.aload_n 0, 1) := dk_42 (dk_at dksJ4_resize_9 0 rfl rfl)
theorem dJ4_resize_212 : decode cJ4_resize 212 = .ok (.aload 6, 2) := dk_25 6 (dk_at dksJ4_resize_9 1 rfl rfl)
theorem dJ4_resize_214 : decode cJ4_resize 214 = .ok (.iload 7, 2) := dk_21 7 (dk_at dksJ4_resize_9 3 rfl rfl)
theorem dJ4_resize_216 : decode cJ4_resize 216 = .ok (.iload_n 2, 1) := dk_28 (dk_at dksJ4_resize_9 5 rfl rfl)
theorem dJ4_resize_217 : decode cJ4_resize 217 = .ok (.invokevirtual 211, 3) := dk_182 0 211 (dk_at dksJ4_resize_9 6 rfl rfl)
theorem dJ4_resize_220 : decode cJ4_resize 220 = .ok (.goto 127, 3) := dk_167 0 127 (dk_at dksJ4_resize_9 9 rfl rfl)
theorem dJ4_resize_223 : decode cJ4_resize 223 = .ok (.aconst_null, 1) := dk_1 (dk_at dksJ4_resize_9 12 rfl rfl)
theorem dJ4_resize_224 : decode cJ4_resize 224 = .ok (.astore 9, 2) := dk_58 9 (dk_at dksJ4_resize_9 13 rfl rfl)
theorem dJ4_resize_226 : decode cJ4_resize 226 = .ok (.aconst_null, 1) := dk_1 (dk_at dksJ4_resize_9 15 rfl rfl)
theorem dJ4_resize_227 : decode cJ4_resize 227 = .ok (.astore 10, 2) := dk_58 10 (dk_at dksJ4_resize_9 16 rfl rfl)
theorem dJ4_resize_229 : decode cJ4_resize 229 = .ok (.aconst_null, 1) := dk_1 (dk_at dksJ4_resize_9 18 rfl rfl)
theorem dJ4_resize_230 : decode cJ4_resize 230 = .ok (.astore 11, 2) := dk_58 11 (dk_at dksJ4_resize_9 19 rfl rfl)
theorem dJ4_resize_232 : decode cJ4_resize 232 = .ok (.aconst_null, 1) := dk_1 (dk_at dksJ4_resize_9 21 rfl rfl)
theorem dJ4_resize_233 : decode cJ4_resize 233 = .ok (.astore 12, 2) := dk_58 12 (dk_at dksJ4_resize_9 22 rfl rfl)
theorem dJ4_resize_235 : decode cJ4_resize 235 = .ok (.aload 8, 2) := dk_25 8 (dk_at dksJ4_resize_10 0 rfl rfl)
theorem dJ4_resize_237 : decode cJ4_resize 237 = .ok (.getfield 177, 3) := dk_180 0 177 (dk_at dksJ4_resize_10 2 rfl rfl)
theorem dJ4_resize_240 : decode cJ4_resize 240 = .ok (.astore 13, 2) := dk_58 13 (dk_at dksJ4_resize_10 5 rfl rfl)
theorem dJ4_resize_242 : decode cJ4_resize 242 = .ok (.aload 8, 2) := dk_25 8 (dk_at dksJ4_resize_10 7 rfl rfl)
theorem dJ4_resize_244 : decode cJ4_resize 244 = .ok (.getfield 168, 3) := dk_180 0 168 (dk_at dksJ4_resize_10 9 rfl rfl)
theorem dJ4_resize_247 : decode cJ4_resize 247 = .ok (.iload_n 2, 1) := dk_28 (dk_at dksJ4_resize_10 12 rfl rfl)
theorem dJ4_resize_248 : decode cJ4_resize 248 = .ok (.iand, 1) := dk_126 (dk_at dksJ4_resize_10 13 rfl rfl)
theorem dJ4_resize_249 : decode cJ4_resize 249 = .ok (.ifCond .ne 29, 3) := dk_154 0 29 (dk_at dksJ4_resize_10 14 rfl rfl)
theorem dJ4_resize_252 : decode cJ4_resize 252 = .ok (.aload 10, 2) := dk_25 10 (dk_at dksJ4_resize_10 17 rfl rfl)
theorem dJ4_resize_254 : decode cJ4_resize 254 = .ok (.ifnonnull 10, 3) := dk_199 0 10 (dk_at dksJ4_resize_10 19 rfl rfl)
theorem dJ4_resize_257 : decode cJ4_resize 257 = .ok (.aload 8, 2) := dk_25 8 (dk_at dksJ4_resize_10 22 rfl rfl)
theorem dJ4_resize_259 : decode cJ4_resize 259 = .ok (.astore 9, 2) := dk_58 9 (dk_at dksJ4_resize_11 0 rfl rfl)
theorem dJ4_resize_261 : decode cJ4_resize 261 = .ok (.goto 10, 3) := dk_167 0 10 (dk_at dksJ4_resize_11 2 rfl rfl)
theorem dJ4_resize_264 : decode cJ4_resize 264 = .ok (.aload 10, 2) := dk_25 10 (dk_at dksJ4_resize_11 5 rfl rfl)
theorem dJ4_resize_266 : decode cJ4_resize 266 = .ok (.aload 8, 2) := dk_25 8 (dk_at dksJ4_resize_11 7 rfl rfl)
theorem dJ4_resize_268 : decode cJ4_resize 268 = .ok (.putfield 177, 3) := dk_181 0 177 (dk_at dksJ4_resize_11 9 rfl rfl)
theorem dJ4_resize_271 : decode cJ4_resize 271 = .ok (.aload 8, 2) := dk_25 8 (dk_at dksJ4_resize_11 12 rfl rfl)
theorem dJ4_resize_273 : decode cJ4_resize 273 = .ok (.astore 10, 2) := dk_58 10 (dk_at dksJ4_resize_11 14 rfl rfl)
theorem dJ4_resize_275 : decode cJ4_resize 275 = .ok (.goto 26, 3) := dk_167 0 26 (dk_at dksJ4_resize_11 16 rfl rfl)
theorem dJ4_resize_278 : decode cJ4_resize 278 = .ok (.aload 12, 2) := dk_25 12 (dk_at dksJ4_resize_11 19 rfl rfl)
theorem dJ4_resize_280 : decode cJ4_resize 280 = .ok (.ifnonnull 10, 3) := dk_199 0 10 (dk_at dksJ4_resize_11 21 rfl rfl)
theorem dJ4_resize_283 : decode cJ4_resize 283 = .ok (.aload 8, 2) := dk_25 8 (dk_at dksJ4_resize_12 0 rfl rfl)
theorem dJ4_resize_285 : decode cJ4_resize 285 = .ok (.astore 11, 2) := dk_58 11 (dk_at dksJ4_resize_12 2 rfl rfl)
theorem dJ4_resize_287 : decode cJ4_resize 287 = .ok (.goto 10, 3) := dk_167 0 10 (dk_at dksJ4_resize_12 4 rfl rfl)
theorem dJ4_resize_290 : decode cJ4_resize 290 = .ok (.aload 12, 2) := dk_25 12 (dk_at dksJ4_resize_12 7 rfl rfl)
theorem dJ4_resize_292 : decode cJ4_resize 292 = .ok (.aload 8, 2) := dk_25 8 (dk_at dksJ4_resize_12 9 rfl rfl)
theorem dJ4_resize_294 : decode cJ4_resize 294 = .ok (.putfield 177, 3) := dk_181 0 177 (dk_at dksJ4_resize_12 11 rfl rfl)
theorem dJ4_resize_297 : decode cJ4_resize 297 = .ok (.aload 8, 2) := dk_25 8 (dk_at dksJ4_resize_12 14 rfl rfl)
theorem dJ4_resize_299 : decode cJ4_resize 299 = .ok (.astore 12, 2) := dk_58 12 (dk_at dksJ4_resize_12 16 rfl rfl)
theorem dJ4_resize_301 : decode cJ4_resize 301 = .ok (.aload 13, 2) := dk_25 13 (dk_at dksJ4_resize_12 18 rfl rfl)
theorem dJ4_resize_303 : decode cJ4_resize 303 = .ok (.dup, 1) := dk_89 (dk_at dksJ4_resize_12 20 rfl rfl)
theorem dJ4_resize_304 : decode cJ4_resize 304 = .ok (.astore 8, 2) := dk_58 8 (dk_at dksJ4_resize_12 21 rfl rfl)
theorem dJ4_resize_306 : decode cJ4_resize 306 = .ok (.ifnonnull (-71), 3) := dk_199 255 185 (dk_at dksJ4_resize_13 0 rfl rfl)
theorem dJ4_resize_309 : decode cJ4_resize 309 = .ok (.aload 10, 2) := dk_25 10 (dk_at dksJ4_resize_13 3 rfl rfl)
theorem dJ4_resize_311 : decode cJ4_resize 311 = .ok (.ifnull 16, 3) := dk_198 0 16 (dk_at dksJ4_resize_13 5 rfl rfl)
theorem dJ4_resize_314 : decode cJ4_resize 314 = .ok (.aload 10, 2) := dk_25 10 (dk_at dksJ4_resize_13 8 rfl rfl)
theorem dJ4_resize_316 : decode cJ4_resize 316 = .ok (.aconst_null, 1) := dk_1 (dk_at dksJ4_resize_13 10 rfl rfl)
theorem dJ4_resize_317 : decode cJ4_resize 317 = .ok (.putfield 177, 3) := dk_181 0 177 (dk_at dksJ4_resize_13 11 rfl rfl)
theorem dJ4_resize_320 : decode cJ4_resize 320 = .ok (.aload 6, 2) := dk_25 6 (dk_at dksJ4_resize_13 14 rfl rfl)
theorem dJ4_resize_322 : decode cJ4_resize 322 = .ok (.iload 7, 2) := dk_21 7 (dk_at dksJ4_resize_13 16 rfl rfl)
theorem dJ4_resize_324 : decode cJ4_resize 324 = .ok (.aload 9, 2) := dk_25 9 (dk_at dksJ4_resize_13 18 rfl rfl)
theorem dJ4_resize_326 : decode cJ4_resize 326 = .ok (.aastore, 1) := dk_83 (dk_at dksJ4_resize_13 20 rfl rfl)
theorem dJ4_resize_327 : decode cJ4_resize 327 = .ok (.aload 12, 2) := dk_25 12 (dk_at dksJ4_resize_13 21 rfl rfl)
theorem dJ4_resize_329 : decode cJ4_resize 329 = .ok (.ifnull 18, 3) := dk_198 0 18 (dk_at dksJ4_resize_14 0 rfl rfl)
theorem dJ4_resize_332 : decode cJ4_resize 332 = .ok (.aload 12, 2) := dk_25 12 (dk_at dksJ4_resize_14 3 rfl rfl)
theorem dJ4_resize_334 : decode cJ4_resize 334 = .ok (.aconst_null, 1) := dk_1 (dk_at dksJ4_resize_14 5 rfl rfl)
theorem dJ4_resize_335 : decode cJ4_resize 335 = .ok (.putfield 177, 3) := dk_181 0 177 (dk_at dksJ4_resize_14 6 rfl rfl)
theorem dJ4_resize_338 : decode cJ4_resize 338 = .ok (.aload 6, 2) := dk_25 6 (dk_at dksJ4_resize_14 9 rfl rfl)
theorem dJ4_resize_340 : decode cJ4_resize 340 = .ok (.iload 7, 2) := dk_21 7 (dk_at dksJ4_resize_14 11 rfl rfl)
theorem dJ4_resize_342 : decode cJ4_resize 342 = .ok (.iload_n 2, 1) := dk_28 (dk_at dksJ4_resize_14 13 rfl rfl)
theorem dJ4_resize_343 : decode cJ4_resize 343 = .ok (.iadd, 1) := dk_96 (dk_at dksJ4_resize_14 14 rfl rfl)
theorem dJ4_resize_344 : decode cJ4_resize 344 = .ok (.aload 11, 2) := dk_25 11 (dk_at dksJ4_resize_14 15 rfl rfl)
theorem dJ4_resize_346 : decode cJ4_resize 346 = .ok (.aastore, 1) := dk_83 (dk_at dksJ4_resize_14 17 rfl rfl)
theorem dJ4_resize_347 : decode cJ4_resize 347 = .ok (.iinc 7 1, 3) := dk_132 7 1 (dk_at dksJ4_resize_14 18 rfl rfl)
theorem dJ4_resize_350 : decode cJ4_resize 350 = .ok (.goto (-199), 3) := dk_167 255 57 (dk_at dksJ4_resize_14 21 rfl rfl)
theorem dJ4_resize_353 : decode cJ4_resize 353 = .ok (.aload 6, 2) := dk_25 6 (dk_at dksJ4_resize_15 0 rfl rfl)
theorem dJ4_resize_355 : decode cJ4_resize 355 = .ok (.areturn, 1) := dk_176 (dk_at dksJ4_resize_15 2 rfl rfl)
abbrev cJ4_replacementNode : ByteArray := prog_39_method_47_code
def yJ4_replacementNode : MethodName := ⟨RJ4, "replacementNode", "(Ljava/util/HashMap$Node;Ljava/util/HashMap$Node;)Ljava/util/HashMap$Node;"⟩
abbrev cJ4_comparableClassFor : ByteArray := prog_39_method_2_code
def yJ4_comparableClassFor : MethodName := ⟨RJ4, "comparableClassFor", "(Ljava/lang/Object;)Ljava/lang/Class;"⟩
abbrev cJ4_compareComparables : ByteArray := prog_39_method_3_code
def yJ4_compareComparables : MethodName := ⟨RJ4, "compareComparables", "(Ljava/lang/Class;Ljava/lang/Object;Ljava/lang/Object;)I"⟩
abbrev cJ4_newNode : ByteArray := prog_39_method_46_code
def yJ4_newNode : MethodName := ⟨RJ4, "newNode", "(ILjava/lang/Object;Ljava/lang/Object;Ljava/util/HashMap$Node;)Ljava/util/HashMap$Node;"⟩
def dkwJ4_newNode_0 : List UInt8 := [187, 0, 163, 89, 27, 44, 45, 25, 4, 183, 1, 119, 176]
abbrev dktJ4_newNode_0 : List UInt8 := dkwJ4_newNode_0 ++ []
theorem dksJ4_newNode_0 : cJ4_newNode.data.toList.drop 0 = dktJ4_newNode_0 := by decide +kernel
theorem dJ4_newNode_0 : decode cJ4_newNode 0 = .ok (.new 163, 3) := dk_187 0 163 (dk_at dksJ4_newNode_0 0 rfl rfl)
theorem dJ4_newNode_3 : decode cJ4_newNode 3 = .ok (.dup, 1) := dk_89 (dk_at dksJ4_newNode_0 3 rfl rfl)
theorem dJ4_newNode_4 : decode cJ4_newNode 4 = .ok (.iload_n 1, 1) := dk_27 (dk_at dksJ4_newNode_0 4 rfl rfl)
theorem dJ4_newNode_5 : decode cJ4_newNode 5 = .ok (.aload_n 2, 1) := dk_44 (dk_at dksJ4_newNode_0 5 rfl rfl)
theorem dJ4_newNode_6 : decode cJ4_newNode 6 = .ok (.aload_n 3, 1) := dk_45 (dk_at dksJ4_newNode_0 6 rfl rfl)
theorem dJ4_newNode_7 : decode cJ4_newNode 7 = .ok (.aload 4, 2) := dk_25 4 (dk_at dksJ4_newNode_0 7 rfl rfl)
theorem dJ4_newNode_9 : decode cJ4_newNode 9 = .ok (.invokespecial 375, 3) := dk_183 1 119 (dk_at dksJ4_newNode_0 9 rfl rfl)
theorem dJ4_newNode_12 : decode cJ4_newNode 12 = .ok (.areturn, 1) := dk_176 (dk_at dksJ4_newNode_0 12 rfl rfl)
abbrev cJ4_newTreeNode : ByteArray := prog_39_method_48_code
def yJ4_newTreeNode : MethodName := ⟨RJ4, "newTreeNode", "(ILjava/lang/Object;Ljava/lang/Object;Ljava/util/HashMap$Node;)Ljava/util/HashMap$TreeNode;"⟩
abbrev cJ4_treeifyBin : ByteArray := prog_39_method_18_code
def yJ4_treeifyBin : MethodName := ⟨RJ4, "treeifyBin", "([Ljava/util/HashMap$Node;I)V"⟩
def dkwJ4_treeifyBin_4 : List UInt8 := [21, 4, 25, 6, 91, 83, 198, 0, 9, 25, 6, 43, 182, 0, 224, 177]
abbrev dktJ4_treeifyBin_4 : List UInt8 := dkwJ4_treeifyBin_4 ++ []
def dkwJ4_treeifyBin_3 : List UInt8 := [25, 7, 25, 8, 181, 0, 223, 25, 8, 58, 7, 25, 5, 180, 0, 177, 89, 58, 5, 199, 255, 209, 43]
abbrev dktJ4_treeifyBin_3 : List UInt8 := dkwJ4_treeifyBin_3 ++ dktJ4_treeifyBin_4
def dkwJ4_treeifyBin_2 : List UInt8 := [182, 0, 215, 58, 8, 25, 7, 199, 0, 10, 25, 8, 58, 6, 167, 0, 17, 25, 8, 25, 7, 181, 0, 219]
abbrev dktJ4_treeifyBin_2 : List UInt8 := dkwJ4_treeifyBin_2 ++ dktJ4_treeifyBin_3
def dkwJ4_treeifyBin_1 : List UInt8 := [100, 28, 126, 89, 54, 4, 50, 89, 58, 5, 198, 0, 75, 1, 58, 6, 1, 58, 7, 42, 25, 5, 1]
abbrev dktJ4_treeifyBin_1 : List UInt8 := dkwJ4_treeifyBin_1 ++ dktJ4_treeifyBin_2
def dkwJ4_treeifyBin_0 : List UInt8 := [43, 198, 0, 12, 43, 190, 89, 62, 16, 64, 162, 0, 11, 42, 182, 0, 117, 87, 167, 0, 91, 43, 29, 4]
abbrev dktJ4_treeifyBin_0 : List UInt8 := dkwJ4_treeifyBin_0 ++ dktJ4_treeifyBin_1
theorem dksJ4_treeifyBin_0 : cJ4_treeifyBin.data.toList.drop 0 = dktJ4_treeifyBin_0 := by decide +kernel
theorem dksJ4_treeifyBin_1 : cJ4_treeifyBin.data.toList.drop 24 = dktJ4_treeifyBin_1 := dk_seg dksJ4_treeifyBin_0 24 rfl rfl
theorem dksJ4_treeifyBin_2 : cJ4_treeifyBin.data.toList.drop 47 = dktJ4_treeifyBin_2 := dk_seg dksJ4_treeifyBin_1 23 rfl rfl
theorem dksJ4_treeifyBin_3 : cJ4_treeifyBin.data.toList.drop 71 = dktJ4_treeifyBin_3 := dk_seg dksJ4_treeifyBin_2 24 rfl rfl
theorem dksJ4_treeifyBin_4 : cJ4_treeifyBin.data.toList.drop 94 = dktJ4_treeifyBin_4 := dk_seg dksJ4_treeifyBin_3 23 rfl rfl
theorem dJ4_treeifyBin_0 : decode cJ4_treeifyBin 0 = .ok (.aload_n 1, 1) := dk_43 (dk_at dksJ4_treeifyBin_0 0 rfl rfl)
theorem dJ4_treeifyBin_1 : decode cJ4_treeifyBin 1 = .ok (.ifnull 12, 3) := dk_198 0 12 (dk_at dksJ4_treeifyBin_0 1 rfl rfl)
theorem dJ4_treeifyBin_4 : decode cJ4_treeifyBin 4 = .ok (.aload_n 1, 1) := dk_43 (dk_at dksJ4_treeifyBin_0 4 rfl rfl)
theorem dJ4_treeifyBin_5 : decode cJ4_treeifyBin 5 = .ok (.arraylength, 1) := dk_190 (dk_at dksJ4_treeifyBin_0 5 rfl rfl)
theorem dJ4_treeifyBin_6 : decode cJ4_treeifyBin 6 = .ok (.dup, 1) := dk_89 (dk_at dksJ4_treeifyBin_0 6 rfl rfl)
theorem dJ4_treeifyBin_7 : decode cJ4_treeifyBin 7 = .ok (.istore_n 3, 1) := dk_62 (dk_at dksJ4_treeifyBin_0 7 rfl rfl)
theorem dJ4_treeifyBin_8 : decode cJ4_treeifyBin 8 = .ok (.bipush 64, 2) := dk_16 64 (dk_at dksJ4_treeifyBin_0 8 rfl rfl)
theorem dJ4_treeifyBin_10 : decode cJ4_treeifyBin 10 = .ok (.if_icmp .ge 11, 3) := dk_162 0 11 (dk_at dksJ4_treeifyBin_0 10 rfl rfl)
theorem dJ4_treeifyBin_13 : decode cJ4_treeifyBin 13 = .ok (.aload_n 0, 1) := dk_42 (dk_at dksJ4_treeifyBin_0 13 rfl rfl)
theorem dJ4_treeifyBin_14 : decode cJ4_treeifyBin 14 = .ok (.invokevirtual 117, 3) := dk_182 0 117 (dk_at dksJ4_treeifyBin_0 14 rfl rfl)
theorem dJ4_treeifyBin_17 : decode cJ4_treeifyBin 17 = .ok (.pop, 1) := dk_87 (dk_at dksJ4_treeifyBin_0 17 rfl rfl)
theorem dJ4_treeifyBin_18 : decode cJ4_treeifyBin 18 = .ok (.goto 91, 3) := dk_167 0 91 (dk_at dksJ4_treeifyBin_0 18 rfl rfl)
theorem dJ4_treeifyBin_21 : decode cJ4_treeifyBin 21 = .ok (.aload_n 1, 1) := dk_43 (dk_at dksJ4_treeifyBin_0 21 rfl rfl)
theorem dJ4_treeifyBin_22 : decode cJ4_treeifyBin 22 = .ok (.iload_n 3, 1) := dk_29 (dk_at dksJ4_treeifyBin_0 22 rfl rfl)
theorem dJ4_treeifyBin_23 : decode cJ4_treeifyBin 23 = .ok (.iconst 1, 1) := dk_4 (dk_at dksJ4_treeifyBin_0 23 rfl rfl)
theorem dJ4_treeifyBin_24 : decode cJ4_treeifyBin 24 = .ok (.isub, 1) := dk_100 (dk_at dksJ4_treeifyBin_1 0 rfl rfl)
theorem dJ4_treeifyBin_25 : decode cJ4_treeifyBin 25 = .ok (.iload_n 2, 1) := dk_28 (dk_at dksJ4_treeifyBin_1 1 rfl rfl)
theorem dJ4_treeifyBin_26 : decode cJ4_treeifyBin 26 = .ok (.iand, 1) := dk_126 (dk_at dksJ4_treeifyBin_1 2 rfl rfl)
theorem dJ4_treeifyBin_27 : decode cJ4_treeifyBin 27 = .ok (.dup, 1) := dk_89 (dk_at dksJ4_treeifyBin_1 3 rfl rfl)
theorem dJ4_treeifyBin_28 : decode cJ4_treeifyBin 28 = .ok (.istore 4, 2) := dk_54 4 (dk_at dksJ4_treeifyBin_1 4 rfl rfl)
theorem dJ4_treeifyBin_30 : decode cJ4_treeifyBin 30 = .ok (.aaload, 1) := dk_50 (dk_at dksJ4_treeifyBin_1 6 rfl rfl)
theorem dJ4_treeifyBin_31 : decode cJ4_treeifyBin 31 = .ok (.dup, 1) := dk_89 (dk_at dksJ4_treeifyBin_1 7 rfl rfl)
theorem dJ4_treeifyBin_32 : decode cJ4_treeifyBin 32 = .ok (.astore 5, 2) := dk_58 5 (dk_at dksJ4_treeifyBin_1 8 rfl rfl)
theorem dJ4_treeifyBin_34 : decode cJ4_treeifyBin 34 = .ok (.ifnull 75, 3) := dk_198 0 75 (dk_at dksJ4_treeifyBin_1 10 rfl rfl)
theorem dJ4_treeifyBin_37 : decode cJ4_treeifyBin 37 = .ok (.aconst_null, 1) := dk_1 (dk_at dksJ4_treeifyBin_1 13 rfl rfl)
theorem dJ4_treeifyBin_38 : decode cJ4_treeifyBin 38 = .ok (.astore 6, 2) := dk_58 6 (dk_at dksJ4_treeifyBin_1 14 rfl rfl)
theorem dJ4_treeifyBin_40 : decode cJ4_treeifyBin 40 = .ok (.aconst_null, 1) := dk_1 (dk_at dksJ4_treeifyBin_1 16 rfl rfl)
theorem dJ4_treeifyBin_41 : decode cJ4_treeifyBin 41 = .ok (.astore 7, 2) := dk_58 7 (dk_at dksJ4_treeifyBin_1 17 rfl rfl)
theorem dJ4_treeifyBin_43 : decode cJ4_treeifyBin 43 = .ok (.aload_n 0, 1) := dk_42 (dk_at dksJ4_treeifyBin_1 19 rfl rfl)
theorem dJ4_treeifyBin_44 : decode cJ4_treeifyBin 44 = .ok (.aload 5, 2) := dk_25 5 (dk_at dksJ4_treeifyBin_1 20 rfl rfl)
theorem dJ4_treeifyBin_46 : decode cJ4_treeifyBin 46 = .ok (.aconst_null, 1) := dk_1 (dk_at dksJ4_treeifyBin_1 22 rfl rfl)
theorem dJ4_treeifyBin_47 : decode cJ4_treeifyBin 47 = .ok (.invokevirtual 215, 3) := dk_182 0 215 (dk_at dksJ4_treeifyBin_2 0 rfl rfl)
theorem dJ4_treeifyBin_50 : decode cJ4_treeifyBin 50 = .ok (.astore 8, 2) := dk_58 8 (dk_at dksJ4_treeifyBin_2 3 rfl rfl)
theorem dJ4_treeifyBin_52 : decode cJ4_treeifyBin 52 = .ok (.aload 7, 2) := dk_25 7 (dk_at dksJ4_treeifyBin_2 5 rfl rfl)
theorem dJ4_treeifyBin_54 : decode cJ4_treeifyBin 54 = .ok (.ifnonnull 10, 3) := dk_199 0 10 (dk_at dksJ4_treeifyBin_2 7 rfl rfl)
theorem dJ4_treeifyBin_57 : decode cJ4_treeifyBin 57 = .ok (.aload 8, 2) := dk_25 8 (dk_at dksJ4_treeifyBin_2 10 rfl rfl)
theorem dJ4_treeifyBin_59 : decode cJ4_treeifyBin 59 = .ok (.astore 6, 2) := dk_58 6 (dk_at dksJ4_treeifyBin_2 12 rfl rfl)
theorem dJ4_treeifyBin_61 : decode cJ4_treeifyBin 61 = .ok (.goto 17, 3) := dk_167 0 17 (dk_at dksJ4_treeifyBin_2 14 rfl rfl)
theorem dJ4_treeifyBin_64 : decode cJ4_treeifyBin 64 = .ok (.aload 8, 2) := dk_25 8 (dk_at dksJ4_treeifyBin_2 17 rfl rfl)
theorem dJ4_treeifyBin_66 : decode cJ4_treeifyBin 66 = .ok (.aload 7, 2) := dk_25 7 (dk_at dksJ4_treeifyBin_2 19 rfl rfl)
theorem dJ4_treeifyBin_68 : decode cJ4_treeifyBin 68 = .ok (.putfield 219, 3) := dk_181 0 219 (dk_at dksJ4_treeifyBin_2 21 rfl rfl)
theorem dJ4_treeifyBin_71 : decode cJ4_treeifyBin 71 = .ok (.aload 7, 2) := dk_25 7 (dk_at dksJ4_treeifyBin_3 0 rfl rfl)
theorem dJ4_treeifyBin_73 : decode cJ4_treeifyBin 73 = .ok (.aload 8, 2) := dk_25 8 (dk_at dksJ4_treeifyBin_3 2 rfl rfl)
theorem dJ4_treeifyBin_75 : decode cJ4_treeifyBin 75 = .ok (.putfield 223, 3) := dk_181 0 223 (dk_at dksJ4_treeifyBin_3 4 rfl rfl)
theorem dJ4_treeifyBin_78 : decode cJ4_treeifyBin 78 = .ok (.aload 8, 2) := dk_25 8 (dk_at dksJ4_treeifyBin_3 7 rfl rfl)
theorem dJ4_treeifyBin_80 : decode cJ4_treeifyBin 80 = .ok (.astore 7, 2) := dk_58 7 (dk_at dksJ4_treeifyBin_3 9 rfl rfl)
theorem dJ4_treeifyBin_82 : decode cJ4_treeifyBin 82 = .ok (.aload 5, 2) := dk_25 5 (dk_at dksJ4_treeifyBin_3 11 rfl rfl)
theorem dJ4_treeifyBin_84 : decode cJ4_treeifyBin 84 = .ok (.getfield 177, 3) := dk_180 0 177 (dk_at dksJ4_treeifyBin_3 13 rfl rfl)
theorem dJ4_treeifyBin_87 : decode cJ4_treeifyBin 87 = .ok (.dup, 1) := dk_89 (dk_at dksJ4_treeifyBin_3 16 rfl rfl)
theorem dJ4_treeifyBin_88 : decode cJ4_treeifyBin 88 = .ok (.astore 5, 2) := dk_58 5 (dk_at dksJ4_treeifyBin_3 17 rfl rfl)
theorem dJ4_treeifyBin_90 : decode cJ4_treeifyBin 90 = .ok (.ifnonnull (-47), 3) := dk_199 255 209 (dk_at dksJ4_treeifyBin_3 19 rfl rfl)
theorem dJ4_treeifyBin_93 : decode cJ4_treeifyBin 93 = .ok (.aload_n 1, 1) := dk_43 (dk_at dksJ4_treeifyBin_3 22 rfl rfl)
theorem dJ4_treeifyBin_94 : decode cJ4_treeifyBin 94 = .ok (.iload 4, 2) := dk_21 4 (dk_at dksJ4_treeifyBin_4 0 rfl rfl)
theorem dJ4_treeifyBin_96 : decode cJ4_treeifyBin 96 = .ok (.aload 6, 2) := dk_25 6 (dk_at dksJ4_treeifyBin_4 2 rfl rfl)
theorem dJ4_treeifyBin_98 : decode cJ4_treeifyBin 98 = .ok (.dup_x2, 1) := dk_91 (dk_at dksJ4_treeifyBin_4 4 rfl rfl)
theorem dJ4_treeifyBin_99 : decode cJ4_treeifyBin 99 = .ok (.aastore, 1) := dk_83 (dk_at dksJ4_treeifyBin_4 5 rfl rfl)
theorem dJ4_treeifyBin_100 : decode cJ4_treeifyBin 100 = .ok (.ifnull 9, 3) := dk_198 0 9 (dk_at dksJ4_treeifyBin_4 6 rfl rfl)
theorem dJ4_treeifyBin_103 : decode cJ4_treeifyBin 103 = .ok (.aload 6, 2) := dk_25 6 (dk_at dksJ4_treeifyBin_4 9 rfl rfl)
theorem dJ4_treeifyBin_105 : decode cJ4_treeifyBin 105 = .ok (.aload_n 1, 1) := dk_43 (dk_at dksJ4_treeifyBin_4 11 rfl rfl)
theorem dJ4_treeifyBin_106 : decode cJ4_treeifyBin 106 = .ok (.invokevirtual 224, 3) := dk_182 0 224 (dk_at dksJ4_treeifyBin_4 12 rfl rfl)
theorem dJ4_treeifyBin_109 : decode cJ4_treeifyBin 109 = .ok (.return_, 1) := dk_177 (dk_at dksJ4_treeifyBin_4 15 rfl rfl)
abbrev cJ4_replacementTreeNode : ByteArray := prog_39_method_49_code
def yJ4_replacementTreeNode : MethodName := ⟨RJ4, "replacementTreeNode", "(Ljava/util/HashMap$Node;Ljava/util/HashMap$Node;)Ljava/util/HashMap$TreeNode;"⟩
abbrev cJ4_afterNodeAccess : ByteArray := prog_39_method_51_code
def yJ4_afterNodeAccess : MethodName := ⟨RJ4, "afterNodeAccess", "(Ljava/util/HashMap$Node;)V"⟩
theorem dJ4_afterNodeAccess_0 : decode cJ4_afterNodeAccess 0 = .ok (.return_, 1) := by decide +kernel
abbrev cJ4_afterNodeInsertion : ByteArray := prog_39_method_52_code
def yJ4_afterNodeInsertion : MethodName := ⟨RJ4, "afterNodeInsertion", "(Z)V"⟩
theorem dJ4_afterNodeInsertion_0 : decode cJ4_afterNodeInsertion 0 = .ok (.return_, 1) := by decide +kernel
abbrev cJ4_get : ByteArray := prog_39_method_12_code
def yJ4_get : MethodName := ⟨RJ4, "get", "(Ljava/lang/Object;)Ljava/lang/Object;"⟩
def dkwJ4_get_0 : List UInt8 := [42, 43, 182, 0, 158, 89, 77, 199, 0, 7, 1, 167, 0, 7, 44, 180, 0, 162, 176]
abbrev dktJ4_get_0 : List UInt8 := dkwJ4_get_0 ++ []
theorem dksJ4_get_0 : cJ4_get.data.toList.drop 0 = dktJ4_get_0 := by decide +kernel
theorem dJ4_get_0 : decode cJ4_get 0 = .ok (.aload_n 0, 1) := dk_42 (dk_at dksJ4_get_0 0 rfl rfl)
theorem dJ4_get_1 : decode cJ4_get 1 = .ok (.aload_n 1, 1) := dk_43 (dk_at dksJ4_get_0 1 rfl rfl)
theorem dJ4_get_2 : decode cJ4_get 2 = .ok (.invokevirtual 158, 3) := dk_182 0 158 (dk_at dksJ4_get_0 2 rfl rfl)
theorem dJ4_get_5 : decode cJ4_get 5 = .ok (.dup, 1) := dk_89 (dk_at dksJ4_get_0 5 rfl rfl)
theorem dJ4_get_6 : decode cJ4_get 6 = .ok (.astore_n 2, 1) := dk_77 (dk_at dksJ4_get_0 6 rfl rfl)
theorem dJ4_get_7 : decode cJ4_get 7 = .ok (.ifnonnull 7, 3) := dk_199 0 7 (dk_at dksJ4_get_0 7 rfl rfl)
theorem dJ4_get_10 : decode cJ4_get 10 = .ok (.aconst_null, 1) := dk_1 (dk_at dksJ4_get_0 10 rfl rfl)
theorem dJ4_get_11 : decode cJ4_get 11 = .ok (.goto 7, 3) := dk_167 0 7 (dk_at dksJ4_get_0 11 rfl rfl)
theorem dJ4_get_14 : decode cJ4_get 14 = .ok (.aload_n 2, 1) := dk_44 (dk_at dksJ4_get_0 14 rfl rfl)
theorem dJ4_get_15 : decode cJ4_get 15 = .ok (.getfield 162, 3) := dk_180 0 162 (dk_at dksJ4_get_0 15 rfl rfl)
theorem dJ4_get_18 : decode cJ4_get 18 = .ok (.areturn, 1) := dk_176 (dk_at dksJ4_get_0 18 rfl rfl)
abbrev cJ4_getNode : ByteArray := prog_39_method_13_code
def yJ4_getNode : MethodName := ⟨RJ4, "getNode", "(Ljava/lang/Object;)Ljava/util/HashMap$Node;"⟩
def dkwJ4_getNode_6 : List UInt8 := [89, 58, 4, 199, 255, 210, 1, 176]
abbrev dktJ4_getNode_6 : List UInt8 := dkwJ4_getNode_6 ++ []
def dkwJ4_getNode_5 : List UInt8 := [165, 0, 16, 43, 198, 0, 15, 43, 25, 7, 182, 0, 173, 153, 0, 6, 25, 4, 176, 25, 4, 180, 0, 177]
abbrev dktJ4_getNode_5 : List UInt8 := dkwJ4_getNode_5 ++ dktJ4_getNode_6
def dkwJ4_getNode_4 : List UInt8 := [43, 182, 0, 182, 176, 25, 4, 180, 0, 168, 21, 6, 160, 0, 31, 25, 4, 180, 0, 170, 89, 58, 7, 43]
abbrev dktJ4_getNode_4 : List UInt8 := dkwJ4_getNode_4 ++ dktJ4_getNode_5
def dkwJ4_getNode_3 : List UInt8 := [176, 45, 180, 0, 177, 89, 58, 4, 198, 0, 70, 45, 193, 0, 180, 153, 0, 14, 45, 192, 0, 180, 21, 6]
abbrev dktJ4_getNode_3 : List UInt8 := dkwJ4_getNode_3 ++ dktJ4_getNode_4
def dkwJ4_getNode_2 : List UInt8 := [180, 0, 170, 89, 58, 7, 43, 165, 0, 16, 43, 198, 0, 14, 43, 25, 7, 182, 0, 173, 153, 0, 5, 45]
abbrev dktJ4_getNode_2 : List UInt8 := dkwJ4_getNode_2 ++ dktJ4_getNode_3
def dkwJ4_getNode_1 : List UInt8 := [184, 0, 149, 89, 54, 6, 126, 50, 89, 78, 198, 0, 115, 45, 180, 0, 168, 21, 6, 160, 0, 29, 45]
abbrev dktJ4_getNode_1 : List UInt8 := dkwJ4_getNode_1 ++ dktJ4_getNode_2
def dkwJ4_getNode_0 : List UInt8 := [42, 180, 0, 105, 89, 77, 198, 0, 142, 44, 190, 89, 54, 5, 158, 0, 134, 44, 21, 5, 4, 100, 43]
abbrev dktJ4_getNode_0 : List UInt8 := dkwJ4_getNode_0 ++ dktJ4_getNode_1
theorem dksJ4_getNode_0 : cJ4_getNode.data.toList.drop 0 = dktJ4_getNode_0 := by decide +kernel
theorem dksJ4_getNode_1 : cJ4_getNode.data.toList.drop 23 = dktJ4_getNode_1 := dk_seg dksJ4_getNode_0 23 rfl rfl
theorem dksJ4_getNode_2 : cJ4_getNode.data.toList.drop 46 = dktJ4_getNode_2 := dk_seg dksJ4_getNode_1 23 rfl rfl
theorem dksJ4_getNode_3 : cJ4_getNode.data.toList.drop 70 = dktJ4_getNode_3 := dk_seg dksJ4_getNode_2 24 rfl rfl
theorem dksJ4_getNode_4 : cJ4_getNode.data.toList.drop 94 = dktJ4_getNode_4 := dk_seg dksJ4_getNode_3 24 rfl rfl
theorem dksJ4_getNode_5 : cJ4_getNode.data.toList.drop 118 = dktJ4_getNode_5 := dk_seg dksJ4_getNode_4 24 rfl rfl
theorem dksJ4_getNode_6 : cJ4_getNode.data.toList.drop 142 = dktJ4_getNode_6 := dk_seg dksJ4_getNode_5 24 rfl rfl
theorem dJ4_getNode_0 : decode cJ4_getNode 0 = .ok (.aload_n 0, 1) := dk_42 (dk_at dksJ4_getNode_0 0 rfl rfl)
theorem dJ4_getNode_1 : decode cJ4_getNode 1 = .ok (.getfield 105, 3) := dk_180 0 105 (dk_at dksJ4_getNode_0 1 rfl rfl)
theorem dJ4_getNode_4 : decode cJ4_getNode 4 = .ok (.dup, 1) := dk_89 (dk_at dksJ4_getNode_0 4 rfl rfl)
theorem dJ4_getNode_5 : decode cJ4_getNode 5 = .ok (.astore_n 2, 1) := dk_77 (dk_at dksJ4_getNode_0 5 rfl rfl)
theorem dJ4_getNode_6 : decode cJ4_getNode 6 = .ok (.ifnull 142, 3) := dk_198 0 142 (dk_at dksJ4_getNode_0 6 rfl rfl)
theorem dJ4_getNode_9 : decode cJ4_getNode 9 = .ok (.aload_n 2, 1) := dk_44 (dk_at dksJ4_getNode_0 9 rfl rfl)
theorem dJ4_getNode_10 : decode cJ4_getNode 10 = .ok (.arraylength, 1) := dk_190 (dk_at dksJ4_getNode_0 10 rfl rfl)
theorem dJ4_getNode_11 : decode cJ4_getNode 11 = .ok (.dup, 1) := dk_89 (dk_at dksJ4_getNode_0 11 rfl rfl)
theorem dJ4_getNode_12 : decode cJ4_getNode 12 = .ok (.istore 5, 2) := dk_54 5 (dk_at dksJ4_getNode_0 12 rfl rfl)
theorem dJ4_getNode_14 : decode cJ4_getNode 14 = .ok (.ifCond .le 134, 3) := dk_158 0 134 (dk_at dksJ4_getNode_0 14 rfl rfl)
theorem dJ4_getNode_17 : decode cJ4_getNode 17 = .ok (.aload_n 2, 1) := dk_44 (dk_at dksJ4_getNode_0 17 rfl rfl)
theorem dJ4_getNode_18 : decode cJ4_getNode 18 = .ok (.iload 5, 2) := dk_21 5 (dk_at dksJ4_getNode_0 18 rfl rfl)
theorem dJ4_getNode_20 : decode cJ4_getNode 20 = .ok (.iconst 1, 1) := dk_4 (dk_at dksJ4_getNode_0 20 rfl rfl)
theorem dJ4_getNode_21 : decode cJ4_getNode 21 = .ok (.isub, 1) := dk_100 (dk_at dksJ4_getNode_0 21 rfl rfl)
theorem dJ4_getNode_22 : decode cJ4_getNode 22 = .ok (.aload_n 1, 1) := dk_43 (dk_at dksJ4_getNode_0 22 rfl rfl)
theorem dJ4_getNode_23 : decode cJ4_getNode 23 = .ok (.invokestatic 149, 3) := dk_184 0 149 (dk_at dksJ4_getNode_1 0 rfl rfl)
theorem dJ4_getNode_26 : decode cJ4_getNode 26 = .ok (.dup, 1) := dk_89 (dk_at dksJ4_getNode_1 3 rfl rfl)
theorem dJ4_getNode_27 : decode cJ4_getNode 27 = .ok (.istore 6, 2) := dk_54 6 (dk_at dksJ4_getNode_1 4 rfl rfl)
theorem dJ4_getNode_29 : decode cJ4_getNode 29 = .ok (.iand, 1) := dk_126 (dk_at dksJ4_getNode_1 6 rfl rfl)
theorem dJ4_getNode_30 : decode cJ4_getNode 30 = .ok (.aaload, 1) := dk_50 (dk_at dksJ4_getNode_1 7 rfl rfl)
theorem dJ4_getNode_31 : decode cJ4_getNode 31 = .ok (.dup, 1) := dk_89 (dk_at dksJ4_getNode_1 8 rfl rfl)
theorem dJ4_getNode_32 : decode cJ4_getNode 32 = .ok (.astore_n 3, 1) := dk_78 (dk_at dksJ4_getNode_1 9 rfl rfl)
theorem dJ4_getNode_33 : decode cJ4_getNode 33 = .ok (.ifnull 115, 3) := dk_198 0 115 (dk_at dksJ4_getNode_1 10 rfl rfl)
theorem dJ4_getNode_36 : decode cJ4_getNode 36 = .ok (.aload_n 3, 1) := dk_45 (dk_at dksJ4_getNode_1 13 rfl rfl)
theorem dJ4_getNode_37 : decode cJ4_getNode 37 = .ok (.getfield 168, 3) := dk_180 0 168 (dk_at dksJ4_getNode_1 14 rfl rfl)
theorem dJ4_getNode_40 : decode cJ4_getNode 40 = .ok (.iload 6, 2) := dk_21 6 (dk_at dksJ4_getNode_1 17 rfl rfl)
theorem dJ4_getNode_42 : decode cJ4_getNode 42 = .ok (.if_icmp .ne 29, 3) := dk_160 0 29 (dk_at dksJ4_getNode_1 19 rfl rfl)
theorem dJ4_getNode_45 : decode cJ4_getNode 45 = .ok (.aload_n 3, 1) := dk_45 (dk_at dksJ4_getNode_1 22 rfl rfl)
theorem dJ4_getNode_46 : decode cJ4_getNode 46 = .ok (.getfield 170, 3) := dk_180 0 170 (dk_at dksJ4_getNode_2 0 rfl rfl)
theorem dJ4_getNode_49 : decode cJ4_getNode 49 = .ok (.dup, 1) := dk_89 (dk_at dksJ4_getNode_2 3 rfl rfl)
theorem dJ4_getNode_50 : decode cJ4_getNode 50 = .ok (.astore 7, 2) := dk_58 7 (dk_at dksJ4_getNode_2 4 rfl rfl)
theorem dJ4_getNode_52 : decode cJ4_getNode 52 = .ok (.aload_n 1, 1) := dk_43 (dk_at dksJ4_getNode_2 6 rfl rfl)
theorem dJ4_getNode_53 : decode cJ4_getNode 53 = .ok (.if_acmp .eq 16, 3) := dk_165 0 16 (dk_at dksJ4_getNode_2 7 rfl rfl)
theorem dJ4_getNode_56 : decode cJ4_getNode 56 = .ok (.aload_n 1, 1) := dk_43 (dk_at dksJ4_getNode_2 10 rfl rfl)
theorem dJ4_getNode_57 : decode cJ4_getNode 57 = .ok (.ifnull 14, 3) := dk_198 0 14 (dk_at dksJ4_getNode_2 11 rfl rfl)
theorem dJ4_getNode_60 : decode cJ4_getNode 60 = .ok (.aload_n 1, 1) := dk_43 (dk_at dksJ4_getNode_2 14 rfl rfl)
theorem dJ4_getNode_61 : decode cJ4_getNode 61 = .ok (.aload 7, 2) := dk_25 7 (dk_at dksJ4_getNode_2 15 rfl rfl)
theorem dJ4_getNode_63 : decode cJ4_getNode 63 = .ok (.invokevirtual 173, 3) := dk_182 0 173 (dk_at dksJ4_getNode_2 17 rfl rfl)
theorem dJ4_getNode_66 : decode cJ4_getNode 66 = .ok (.ifCond .eq 5, 3) := dk_153 0 5 (dk_at dksJ4_getNode_2 20 rfl rfl)
theorem dJ4_getNode_69 : decode cJ4_getNode 69 = .ok (.aload_n 3, 1) := dk_45 (dk_at dksJ4_getNode_2 23 rfl rfl)
theorem dJ4_getNode_70 : decode cJ4_getNode 70 = .ok (.areturn, 1) := dk_176 (dk_at dksJ4_getNode_3 0 rfl rfl)
theorem dJ4_getNode_71 : decode cJ4_getNode 71 = .ok (.aload_n 3, 1) := dk_45 (dk_at dksJ4_getNode_3 1 rfl rfl)
theorem dJ4_getNode_72 : decode cJ4_getNode 72 = .ok (.getfield 177, 3) := dk_180 0 177 (dk_at dksJ4_getNode_3 2 rfl rfl)
theorem dJ4_getNode_75 : decode cJ4_getNode 75 = .ok (.dup, 1) := dk_89 (dk_at dksJ4_getNode_3 5 rfl rfl)
theorem dJ4_getNode_76 : decode cJ4_getNode 76 = .ok (.astore 4, 2) := dk_58 4 (dk_at dksJ4_getNode_3 6 rfl rfl)
theorem dJ4_getNode_78 : decode cJ4_getNode 78 = .ok (.ifnull 70, 3) := dk_198 0 70 (dk_at dksJ4_getNode_3 8 rfl rfl)
theorem dJ4_getNode_81 : decode cJ4_getNode 81 = .ok (.aload_n 3, 1) := dk_45 (dk_at dksJ4_getNode_3 11 rfl rfl)
theorem dJ4_getNode_82 : decode cJ4_getNode 82 = .ok (.instanceof 180, 3) := dk_193 0 180 (dk_at dksJ4_getNode_3 12 rfl rfl)
theorem dJ4_getNode_85 : decode cJ4_getNode 85 = .ok (.ifCond .eq 14, 3) := dk_153 0 14 (dk_at dksJ4_getNode_3 15 rfl rfl)
theorem dJ4_getNode_88 : decode cJ4_getNode 88 = .ok (.aload_n 3, 1) := dk_45 (dk_at dksJ4_getNode_3 18 rfl rfl)
theorem dJ4_getNode_89 : decode cJ4_getNode 89 = .ok (.checkcast 180, 3) := dk_192 0 180 (dk_at dksJ4_getNode_3 19 rfl rfl)
theorem dJ4_getNode_92 : decode cJ4_getNode 92 = .ok (.iload 6, 2) := dk_21 6 (dk_at dksJ4_getNode_3 22 rfl rfl)
theorem dJ4_getNode_94 : decode cJ4_getNode 94 = .ok (.aload_n 1, 1) := dk_43 (dk_at dksJ4_getNode_4 0 rfl rfl)
theorem dJ4_getNode_95 : decode cJ4_getNode 95 = .ok (.invokevirtual 182, 3) := dk_182 0 182 (dk_at dksJ4_getNode_4 1 rfl rfl)
theorem dJ4_getNode_98 : decode cJ4_getNode 98 = .ok (.areturn, 1) := dk_176 (dk_at dksJ4_getNode_4 4 rfl rfl)
theorem dJ4_getNode_99 : decode cJ4_getNode 99 = .ok (.aload 4, 2) := dk_25 4 (dk_at dksJ4_getNode_4 5 rfl rfl)
theorem dJ4_getNode_101 : decode cJ4_getNode 101 = .ok (.getfield 168, 3) := dk_180 0 168 (dk_at dksJ4_getNode_4 7 rfl rfl)
theorem dJ4_getNode_104 : decode cJ4_getNode 104 = .ok (.iload 6, 2) := dk_21 6 (dk_at dksJ4_getNode_4 10 rfl rfl)
theorem dJ4_getNode_106 : decode cJ4_getNode 106 = .ok (.if_icmp .ne 31, 3) := dk_160 0 31 (dk_at dksJ4_getNode_4 12 rfl rfl)
theorem dJ4_getNode_109 : decode cJ4_getNode 109 = .ok (.aload 4, 2) := dk_25 4 (dk_at dksJ4_getNode_4 15 rfl rfl)
theorem dJ4_getNode_111 : decode cJ4_getNode 111 = .ok (.getfield 170, 3) := dk_180 0 170 (dk_at dksJ4_getNode_4 17 rfl rfl)
theorem dJ4_getNode_114 : decode cJ4_getNode 114 = .ok (.dup, 1) := dk_89 (dk_at dksJ4_getNode_4 20 rfl rfl)
theorem dJ4_getNode_115 : decode cJ4_getNode 115 = .ok (.astore 7, 2) := dk_58 7 (dk_at dksJ4_getNode_4 21 rfl rfl)
theorem dJ4_getNode_117 : decode cJ4_getNode 117 = .ok (.aload_n 1, 1) := dk_43 (dk_at dksJ4_getNode_4 23 rfl rfl)
theorem dJ4_getNode_118 : decode cJ4_getNode 118 = .ok (.if_acmp .eq 16, 3) := dk_165 0 16 (dk_at dksJ4_getNode_5 0 rfl rfl)
theorem dJ4_getNode_121 : decode cJ4_getNode 121 = .ok (.aload_n 1, 1) := dk_43 (dk_at dksJ4_getNode_5 3 rfl rfl)
theorem dJ4_getNode_122 : decode cJ4_getNode 122 = .ok (.ifnull 15, 3) := dk_198 0 15 (dk_at dksJ4_getNode_5 4 rfl rfl)
theorem dJ4_getNode_125 : decode cJ4_getNode 125 = .ok (.aload_n 1, 1) := dk_43 (dk_at dksJ4_getNode_5 7 rfl rfl)
theorem dJ4_getNode_126 : decode cJ4_getNode 126 = .ok (.aload 7, 2) := dk_25 7 (dk_at dksJ4_getNode_5 8 rfl rfl)
theorem dJ4_getNode_128 : decode cJ4_getNode 128 = .ok (.invokevirtual 173, 3) := dk_182 0 173 (dk_at dksJ4_getNode_5 10 rfl rfl)
theorem dJ4_getNode_131 : decode cJ4_getNode 131 = .ok (.ifCond .eq 6, 3) := dk_153 0 6 (dk_at dksJ4_getNode_5 13 rfl rfl)
theorem dJ4_getNode_134 : decode cJ4_getNode 134 = .ok (.aload 4, 2) := dk_25 4 (dk_at dksJ4_getNode_5 16 rfl rfl)
theorem dJ4_getNode_136 : decode cJ4_getNode 136 = .ok (.areturn, 1) := dk_176 (dk_at dksJ4_getNode_5 18 rfl rfl)
theorem dJ4_getNode_137 : decode cJ4_getNode 137 = .ok (.aload 4, 2) := dk_25 4 (dk_at dksJ4_getNode_5 19 rfl rfl)
theorem dJ4_getNode_139 : decode cJ4_getNode 139 = .ok (.getfield 177, 3) := dk_180 0 177 (dk_at dksJ4_getNode_5 21 rfl rfl)
theorem dJ4_getNode_142 : decode cJ4_getNode 142 = .ok (.dup, 1) := dk_89 (dk_at dksJ4_getNode_6 0 rfl rfl)
theorem dJ4_getNode_143 : decode cJ4_getNode 143 = .ok (.astore 4, 2) := dk_58 4 (dk_at dksJ4_getNode_6 1 rfl rfl)
theorem dJ4_getNode_145 : decode cJ4_getNode 145 = .ok (.ifnonnull (-46), 3) := dk_199 255 210 (dk_at dksJ4_getNode_6 3 rfl rfl)
theorem dJ4_getNode_148 : decode cJ4_getNode 148 = .ok (.aconst_null, 1) := dk_1 (dk_at dksJ4_getNode_6 6 rfl rfl)
theorem dJ4_getNode_149 : decode cJ4_getNode 149 = .ok (.areturn, 1) := dk_176 (dk_at dksJ4_getNode_6 7 rfl rfl)
abbrev cJ4_remove : ByteArray := prog_39_method_20_code
def yJ4_remove : MethodName := ⟨RJ4, "remove", "(Ljava/lang/Object;)Ljava/lang/Object;"⟩
def dkwJ4_remove_1 : List UInt8 := [180, 0, 162, 176]
abbrev dktJ4_remove_1 : List UInt8 := dkwJ4_remove_1 ++ []
def dkwJ4_remove_0 : List UInt8 := [42, 43, 184, 0, 149, 43, 1, 3, 4, 182, 0, 228, 89, 77, 199, 0, 7, 1, 167, 0, 7, 44]
abbrev dktJ4_remove_0 : List UInt8 := dkwJ4_remove_0 ++ dktJ4_remove_1
theorem dksJ4_remove_0 : cJ4_remove.data.toList.drop 0 = dktJ4_remove_0 := by decide +kernel
theorem dksJ4_remove_1 : cJ4_remove.data.toList.drop 22 = dktJ4_remove_1 := dk_seg dksJ4_remove_0 22 rfl rfl
theorem dJ4_remove_0 : decode cJ4_remove 0 = .ok (.aload_n 0, 1) := dk_42 (dk_at dksJ4_remove_0 0 rfl rfl)
theorem dJ4_remove_1 : decode cJ4_remove 1 = .ok (.aload_n 1, 1) := dk_43 (dk_at dksJ4_remove_0 1 rfl rfl)
theorem dJ4_remove_2 : decode cJ4_remove 2 = .ok (.invokestatic 149, 3) := dk_184 0 149 (dk_at dksJ4_remove_0 2 rfl rfl)
theorem dJ4_remove_5 : decode cJ4_remove 5 = .ok (.aload_n 1, 1) := dk_43 (dk_at dksJ4_remove_0 5 rfl rfl)
theorem dJ4_remove_6 : decode cJ4_remove 6 = .ok (.aconst_null, 1) := dk_1 (dk_at dksJ4_remove_0 6 rfl rfl)
theorem dJ4_remove_7 : decode cJ4_remove 7 = .ok (.iconst 0, 1) := dk_3 (dk_at dksJ4_remove_0 7 rfl rfl)
theorem dJ4_remove_8 : decode cJ4_remove 8 = .ok (.iconst 1, 1) := dk_4 (dk_at dksJ4_remove_0 8 rfl rfl)
theorem dJ4_remove_9 : decode cJ4_remove 9 = .ok (.invokevirtual 228, 3) := dk_182 0 228 (dk_at dksJ4_remove_0 9 rfl rfl)
theorem dJ4_remove_12 : decode cJ4_remove 12 = .ok (.dup, 1) := dk_89 (dk_at dksJ4_remove_0 12 rfl rfl)
theorem dJ4_remove_13 : decode cJ4_remove 13 = .ok (.astore_n 2, 1) := dk_77 (dk_at dksJ4_remove_0 13 rfl rfl)
theorem dJ4_remove_14 : decode cJ4_remove 14 = .ok (.ifnonnull 7, 3) := dk_199 0 7 (dk_at dksJ4_remove_0 14 rfl rfl)
theorem dJ4_remove_17 : decode cJ4_remove 17 = .ok (.aconst_null, 1) := dk_1 (dk_at dksJ4_remove_0 17 rfl rfl)
theorem dJ4_remove_18 : decode cJ4_remove 18 = .ok (.goto 7, 3) := dk_167 0 7 (dk_at dksJ4_remove_0 18 rfl rfl)
theorem dJ4_remove_21 : decode cJ4_remove 21 = .ok (.aload_n 2, 1) := dk_44 (dk_at dksJ4_remove_0 21 rfl rfl)
theorem dJ4_remove_22 : decode cJ4_remove 22 = .ok (.getfield 162, 3) := dk_180 0 162 (dk_at dksJ4_remove_1 0 rfl rfl)
theorem dJ4_remove_25 : decode cJ4_remove 25 = .ok (.areturn, 1) := dk_176 (dk_at dksJ4_remove_1 3 rfl rfl)
abbrev cJ4_removeNode : ByteArray := prog_39_method_21_code
def yJ4_removeNode : MethodName := ⟨RJ4, "removeNode", "(ILjava/lang/Object;Ljava/lang/Object;ZZ)Ljava/util/HashMap$Node;"⟩
def dkwJ4_removeNode_12 : List UInt8 := [181, 0, 156, 42, 25, 10, 182, 0, 236, 25, 10, 176, 1, 176]
abbrev dktJ4_removeNode_12 : List UInt8 := dkwJ4_removeNode_12 ++ []
def dkwJ4_removeNode_11 : List UInt8 := [180, 0, 177, 181, 0, 177, 42, 89, 180, 0, 202, 4, 96, 181, 0, 202, 42, 89, 180, 0, 156, 4, 100]
abbrev dktJ4_removeNode_11 : List UInt8 := dkwJ4_removeNode_11 ++ dktJ4_removeNode_12
def dkwJ4_removeNode_10 : List UInt8 := [25, 10, 25, 7, 166, 0, 16, 25, 6, 21, 9, 25, 10, 180, 0, 177, 83, 167, 0, 13, 25, 7, 25, 10]
abbrev dktJ4_removeNode_10 : List UInt8 := dkwJ4_removeNode_10 ++ dktJ4_removeNode_11
def dkwJ4_removeNode_9 : List UInt8 := [25, 10, 193, 0, 180, 153, 0, 19, 25, 10, 192, 0, 180, 42, 25, 6, 21, 5, 182, 0, 232, 167, 0, 33]
abbrev dktJ4_removeNode_9 : List UInt8 := dkwJ4_removeNode_9 ++ dktJ4_removeNode_10
def dkwJ4_removeNode_8 : List UInt8 := [180, 0, 162, 89, 58, 13, 45, 165, 0, 16, 45, 198, 0, 95, 45, 25, 13, 182, 0, 173, 153, 0, 86]
abbrev dktJ4_removeNode_8 : List UInt8 := dkwJ4_removeNode_8 ++ dktJ4_removeNode_9
def dkwJ4_removeNode_7 : List UInt8 := [25, 11, 180, 0, 177, 89, 58, 11, 199, 255, 203, 25, 10, 198, 0, 116, 21, 4, 153, 0, 28, 25, 10]
abbrev dktJ4_removeNode_7 : List UInt8 := dkwJ4_removeNode_7 ++ dktJ4_removeNode_8
def dkwJ4_removeNode_6 : List UInt8 := [198, 0, 19, 44, 25, 12, 182, 0, 173, 153, 0, 10, 25, 11, 58, 10, 167, 0, 18, 25, 11, 58, 7]
abbrev dktJ4_removeNode_6 : List UInt8 := dkwJ4_removeNode_6 ++ dktJ4_removeNode_7
def dkwJ4_removeNode_5 : List UInt8 := [25, 11, 180, 0, 168, 27, 160, 0, 35, 25, 11, 180, 0, 170, 89, 58, 12, 44, 165, 0, 16, 44]
abbrev dktJ4_removeNode_5 : List UInt8 := dkwJ4_removeNode_5 ++ dktJ4_removeNode_6
def dkwJ4_removeNode_4 : List UInt8 := [25, 7, 193, 0, 180, 153, 0, 18, 25, 7, 192, 0, 180, 27, 44, 182, 0, 182, 58, 10, 167, 0, 59]
abbrev dktJ4_removeNode_4 : List UInt8 := dkwJ4_removeNode_4 ++ dktJ4_removeNode_5
def dkwJ4_removeNode_3 : List UInt8 := [182, 0, 173, 153, 0, 10, 25, 7, 58, 10, 167, 0, 93, 25, 7, 180, 0, 177, 89, 58, 11, 198, 0, 82]
abbrev dktJ4_removeNode_3 : List UInt8 := dkwJ4_removeNode_3 ++ dktJ4_removeNode_4
def dkwJ4_removeNode_2 : List UInt8 := [160, 0, 35, 25, 7, 180, 0, 170, 89, 58, 12, 44, 165, 0, 16, 44, 198, 0, 19, 44, 25, 12]
abbrev dktJ4_removeNode_2 : List UInt8 := dkwJ4_removeNode_2 ++ dktJ4_removeNode_3
def dkwJ4_removeNode_1 : List UInt8 := [100, 27, 126, 89, 54, 9, 50, 89, 58, 7, 198, 0, 255, 1, 58, 10, 25, 7, 180, 0, 168, 27]
abbrev dktJ4_removeNode_1 : List UInt8 := dkwJ4_removeNode_1 ++ dktJ4_removeNode_2
def dkwJ4_removeNode_0 : List UInt8 := [42, 180, 0, 105, 89, 58, 6, 198, 1, 26, 25, 6, 190, 89, 54, 8, 158, 1, 17, 25, 6, 21, 8, 4]
abbrev dktJ4_removeNode_0 : List UInt8 := dkwJ4_removeNode_0 ++ dktJ4_removeNode_1
theorem dksJ4_removeNode_0 : cJ4_removeNode.data.toList.drop 0 = dktJ4_removeNode_0 := by decide +kernel
theorem dksJ4_removeNode_1 : cJ4_removeNode.data.toList.drop 24 = dktJ4_removeNode_1 := dk_seg dksJ4_removeNode_0 24 rfl rfl
theorem dksJ4_removeNode_2 : cJ4_removeNode.data.toList.drop 46 = dktJ4_removeNode_2 := dk_seg dksJ4_removeNode_1 22 rfl rfl
theorem dksJ4_removeNode_3 : cJ4_removeNode.data.toList.drop 68 = dktJ4_removeNode_3 := dk_seg dksJ4_removeNode_2 22 rfl rfl
theorem dksJ4_removeNode_4 : cJ4_removeNode.data.toList.drop 92 = dktJ4_removeNode_4 := dk_seg dksJ4_removeNode_3 24 rfl rfl
theorem dksJ4_removeNode_5 : cJ4_removeNode.data.toList.drop 115 = dktJ4_removeNode_5 := dk_seg dksJ4_removeNode_4 23 rfl rfl
theorem dksJ4_removeNode_6 : cJ4_removeNode.data.toList.drop 137 = dktJ4_removeNode_6 := dk_seg dksJ4_removeNode_5 22 rfl rfl
theorem dksJ4_removeNode_7 : cJ4_removeNode.data.toList.drop 160 = dktJ4_removeNode_7 := dk_seg dksJ4_removeNode_6 23 rfl rfl
theorem dksJ4_removeNode_8 : cJ4_removeNode.data.toList.drop 183 = dktJ4_removeNode_8 := dk_seg dksJ4_removeNode_7 23 rfl rfl
theorem dksJ4_removeNode_9 : cJ4_removeNode.data.toList.drop 206 = dktJ4_removeNode_9 := dk_seg dksJ4_removeNode_8 23 rfl rfl
theorem dksJ4_removeNode_10 : cJ4_removeNode.data.toList.drop 230 = dktJ4_removeNode_10 := dk_seg dksJ4_removeNode_9 24 rfl rfl
theorem dksJ4_removeNode_11 : cJ4_removeNode.data.toList.drop 254 = dktJ4_removeNode_11 := dk_seg dksJ4_removeNode_10 24 rfl rfl
theorem dksJ4_removeNode_12 : cJ4_removeNode.data.toList.drop 277 = dktJ4_removeNode_12 := dk_seg dksJ4_removeNode_11 23 rfl rfl
theorem dJ4_removeNode_0 : decode cJ4_removeNode 0 = .ok (.aload_n 0, 1) := dk_42 (dk_at dksJ4_removeNode_0 0 rfl rfl)
theorem dJ4_removeNode_1 : decode cJ4_removeNode 1 = .ok (.getfield 105, 3) := dk_180 0 105 (dk_at dksJ4_removeNode_0 1 rfl rfl)
theorem dJ4_removeNode_4 : decode cJ4_removeNode 4 = .ok (.dup, 1) := dk_89 (dk_at dksJ4_removeNode_0 4 rfl rfl)
theorem dJ4_removeNode_5 : decode cJ4_removeNode 5 = .ok (.astore 6, 2) := dk_58 6 (dk_at dksJ4_removeNode_0 5 rfl rfl)
theorem dJ4_removeNode_7 : decode cJ4_removeNode 7 = .ok (.ifnull 282, 3) := dk_198 1 26 (dk_at dksJ4_removeNode_0 7 rfl rfl)
theorem dJ4_removeNode_10 : decode cJ4_removeNode 10 = .ok (.aload 6, 2) := dk_25 6 (dk_at dksJ4_removeNode_0 10 rfl rfl)
theorem dJ4_removeNode_12 : decode cJ4_removeNode 12 = .ok (.arraylength, 1) := dk_190 (dk_at dksJ4_removeNode_0 12 rfl rfl)
theorem dJ4_removeNode_13 : decode cJ4_removeNode 13 = .ok (.dup, 1) := dk_89 (dk_at dksJ4_removeNode_0 13 rfl rfl)
theorem dJ4_removeNode_14 : decode cJ4_removeNode 14 = .ok (.istore 8, 2) := dk_54 8 (dk_at dksJ4_removeNode_0 14 rfl rfl)
theorem dJ4_removeNode_16 : decode cJ4_removeNode 16 = .ok (.ifCond .le 273, 3) := dk_158 1 17 (dk_at dksJ4_removeNode_0 16 rfl rfl)
theorem dJ4_removeNode_19 : decode cJ4_removeNode 19 = .ok (.aload 6, 2) := dk_25 6 (dk_at dksJ4_removeNode_0 19 rfl rfl)
theorem dJ4_removeNode_21 : decode cJ4_removeNode 21 = .ok (.iload 8, 2) := dk_21 8 (dk_at dksJ4_removeNode_0 21 rfl rfl)
theorem dJ4_removeNode_23 : decode cJ4_removeNode 23 = .ok (.iconst 1, 1) := dk_4 (dk_at dksJ4_removeNode_0 23 rfl rfl)
theorem dJ4_removeNode_24 : decode cJ4_removeNode 24 = .ok (.isub, 1) := dk_100 (dk_at dksJ4_removeNode_1 0 rfl rfl)
theorem dJ4_removeNode_25 : decode cJ4_removeNode 25 = .ok (.iload_n 1, 1) := dk_27 (dk_at dksJ4_removeNode_1 1 rfl rfl)
theorem dJ4_removeNode_26 : decode cJ4_removeNode 26 = .ok (.iand, 1) := dk_126 (dk_at dksJ4_removeNode_1 2 rfl rfl)
theorem dJ4_removeNode_27 : decode cJ4_removeNode 27 = .ok (.dup, 1) := dk_89 (dk_at dksJ4_removeNode_1 3 rfl rfl)
theorem dJ4_removeNode_28 : decode cJ4_removeNode 28 = .ok (.istore 9, 2) := dk_54 9 (dk_at dksJ4_removeNode_1 4 rfl rfl)
theorem dJ4_removeNode_30 : decode cJ4_removeNode 30 = .ok (.aaload, 1) := dk_50 (dk_at dksJ4_removeNode_1 6 rfl rfl)
theorem dJ4_removeNode_31 : decode cJ4_removeNode 31 = .ok (.dup, 1) := dk_89 (dk_at dksJ4_removeNode_1 7 rfl rfl)
theorem dJ4_removeNode_32 : decode cJ4_removeNode 32 = .ok (.astore 7, 2) := dk_58 7 (dk_at dksJ4_removeNode_1 8 rfl rfl)
theorem dJ4_removeNode_34 : decode cJ4_removeNode 34 = .ok (.ifnull 255, 3) := dk_198 0 255 (dk_at dksJ4_removeNode_1 10 rfl rfl)
theorem dJ4_removeNode_37 : decode cJ4_removeNode 37 = .ok (.aconst_null, 1) := dk_1 (dk_at dksJ4_removeNode_1 13 rfl rfl)
theorem dJ4_removeNode_38 : decode cJ4_removeNode 38 = .ok (.astore 10, 2) := dk_58 10 (dk_at dksJ4_removeNode_1 14 rfl rfl)
theorem dJ4_removeNode_40 : decode cJ4_removeNode 40 = .ok (.aload 7, 2) := dk_25 7 (dk_at dksJ4_removeNode_1 16 rfl rfl)
theorem dJ4_removeNode_42 : decode cJ4_removeNode 42 = .ok (.getfield 168, 3) := dk_180 0 168 (dk_at dksJ4_removeNode_1 18 rfl rfl)
theorem dJ4_removeNode_45 : decode cJ4_removeNode 45 = .ok (.iload_n 1, 1) := dk_27 (dk_at dksJ4_removeNode_1 21 rfl rfl)
theorem dJ4_removeNode_46 : decode cJ4_removeNode 46 = .ok (.if_icmp .ne 35, 3) := dk_160 0 35 (dk_at dksJ4_removeNode_2 0 rfl rfl)
theorem dJ4_removeNode_49 : decode cJ4_removeNode 49 = .ok (.aload 7, 2) := dk_25 7 (dk_at dksJ4_removeNode_2 3 rfl rfl)
theorem dJ4_removeNode_51 : decode cJ4_removeNode 51 = .ok (.getfield 170, 3) := dk_180 0 170 (dk_at dksJ4_removeNode_2 5 rfl rfl)
theorem dJ4_removeNode_54 : decode cJ4_removeNode 54 = .ok (.dup, 1) := dk_89 (dk_at dksJ4_removeNode_2 8 rfl rfl)
theorem dJ4_removeNode_55 : decode cJ4_removeNode 55 = .ok (.astore 12, 2) := dk_58 12 (dk_at dksJ4_removeNode_2 9 rfl rfl)
theorem dJ4_removeNode_57 : decode cJ4_removeNode 57 = .ok (.aload_n 2, 1) := dk_44 (dk_at dksJ4_removeNode_2 11 rfl rfl)
theorem dJ4_removeNode_58 : decode cJ4_removeNode 58 = .ok (.if_acmp .eq 16, 3) := dk_165 0 16 (dk_at dksJ4_removeNode_2 12 rfl rfl)
theorem dJ4_removeNode_61 : decode cJ4_removeNode 61 = .ok (.aload_n 2, 1) := dk_44 (dk_at dksJ4_removeNode_2 15 rfl rfl)
theorem dJ4_removeNode_62 : decode cJ4_removeNode 62 = .ok (.ifnull 19, 3) := dk_198 0 19 (dk_at dksJ4_removeNode_2 16 rfl rfl)
theorem dJ4_removeNode_65 : decode cJ4_removeNode 65 = .ok (.aload_n 2, 1) := dk_44 (dk_at dksJ4_removeNode_2 19 rfl rfl)
theorem dJ4_removeNode_66 : decode cJ4_removeNode 66 = .ok (.aload 12, 2) := dk_25 12 (dk_at dksJ4_removeNode_2 20 rfl rfl)
theorem dJ4_removeNode_68 : decode cJ4_removeNode 68 = .ok (.invokevirtual 173, 3) := dk_182 0 173 (dk_at dksJ4_removeNode_3 0 rfl rfl)
theorem dJ4_removeNode_71 : decode cJ4_removeNode 71 = .ok (.ifCond .eq 10, 3) := dk_153 0 10 (dk_at dksJ4_removeNode_3 3 rfl rfl)
theorem dJ4_removeNode_74 : decode cJ4_removeNode 74 = .ok (.aload 7, 2) := dk_25 7 (dk_at dksJ4_removeNode_3 6 rfl rfl)
theorem dJ4_removeNode_76 : decode cJ4_removeNode 76 = .ok (.astore 10, 2) := dk_58 10 (dk_at dksJ4_removeNode_3 8 rfl rfl)
theorem dJ4_removeNode_78 : decode cJ4_removeNode 78 = .ok (.goto 93, 3) := dk_167 0 93 (dk_at dksJ4_removeNode_3 10 rfl rfl)
theorem dJ4_removeNode_81 : decode cJ4_removeNode 81 = .ok (.aload 7, 2) := dk_25 7 (dk_at dksJ4_removeNode_3 13 rfl rfl)
theorem dJ4_removeNode_83 : decode cJ4_removeNode 83 = .ok (.getfield 177, 3) := dk_180 0 177 (dk_at dksJ4_removeNode_3 15 rfl rfl)
theorem dJ4_removeNode_86 : decode cJ4_removeNode 86 = .ok (.dup, 1) := dk_89 (dk_at dksJ4_removeNode_3 18 rfl rfl)
theorem dJ4_removeNode_87 : decode cJ4_removeNode 87 = .ok (.astore 11, 2) := dk_58 11 (dk_at dksJ4_removeNode_3 19 rfl rfl)
theorem dJ4_removeNode_89 : decode cJ4_removeNode 89 = .ok (.ifnull 82, 3) := dk_198 0 82 (dk_at dksJ4_removeNode_3 21 rfl rfl)
theorem dJ4_removeNode_92 : decode cJ4_removeNode 92 = .ok (.aload 7, 2) := dk_25 7 (dk_at dksJ4_removeNode_4 0 rfl rfl)
theorem dJ4_removeNode_94 : decode cJ4_removeNode 94 = .ok (.instanceof 180, 3) := dk_193 0 180 (dk_at dksJ4_removeNode_4 2 rfl rfl)
theorem dJ4_removeNode_97 : decode cJ4_removeNode 97 = .ok (.ifCond .eq 18, 3) := dk_153 0 18 (dk_at dksJ4_removeNode_4 5 rfl rfl)
theorem dJ4_removeNode_100 : decode cJ4_removeNode 100 = .ok (.aload 7, 2) := dk_25 7 (dk_at dksJ4_removeNode_4 8 rfl rfl)
theorem dJ4_removeNode_102 : decode cJ4_removeNode 102 = .ok (.checkcast 180, 3) := dk_192 0 180 (dk_at dksJ4_removeNode_4 10 rfl rfl)
theorem dJ4_removeNode_105 : decode cJ4_removeNode 105 = .ok (.iload_n 1, 1) := dk_27 (dk_at dksJ4_removeNode_4 13 rfl rfl)
theorem dJ4_removeNode_106 : decode cJ4_removeNode 106 = .ok (.aload_n 2, 1) := dk_44 (dk_at dksJ4_removeNode_4 14 rfl rfl)
theorem dJ4_removeNode_107 : decode cJ4_removeNode 107 = .ok (.invokevirtual 182, 3) := dk_182 0 182 (dk_at dksJ4_removeNode_4 15 rfl rfl)
theorem dJ4_removeNode_110 : decode cJ4_removeNode 110 = .ok (.astore 10, 2) := dk_58 10 (dk_at dksJ4_removeNode_4 18 rfl rfl)
theorem dJ4_removeNode_112 : decode cJ4_removeNode 112 = .ok (.goto 59, 3) := dk_167 0 59 (dk_at dksJ4_removeNode_4 20 rfl rfl)
theorem dJ4_removeNode_115 : decode cJ4_removeNode 115 = .ok (.aload 11, 2) := dk_25 11 (dk_at dksJ4_removeNode_5 0 rfl rfl)
theorem dJ4_removeNode_117 : decode cJ4_removeNode 117 = .ok (.getfield 168, 3) := dk_180 0 168 (dk_at dksJ4_removeNode_5 2 rfl rfl)
theorem dJ4_removeNode_120 : decode cJ4_removeNode 120 = .ok (.iload_n 1, 1) := dk_27 (dk_at dksJ4_removeNode_5 5 rfl rfl)
theorem dJ4_removeNode_121 : decode cJ4_removeNode 121 = .ok (.if_icmp .ne 35, 3) := dk_160 0 35 (dk_at dksJ4_removeNode_5 6 rfl rfl)
theorem dJ4_removeNode_124 : decode cJ4_removeNode 124 = .ok (.aload 11, 2) := dk_25 11 (dk_at dksJ4_removeNode_5 9 rfl rfl)
theorem dJ4_removeNode_126 : decode cJ4_removeNode 126 = .ok (.getfield 170, 3) := dk_180 0 170 (dk_at dksJ4_removeNode_5 11 rfl rfl)
theorem dJ4_removeNode_129 : decode cJ4_removeNode 129 = .ok (.dup, 1) := dk_89 (dk_at dksJ4_removeNode_5 14 rfl rfl)
theorem dJ4_removeNode_130 : decode cJ4_removeNode 130 = .ok (.astore 12, 2) := dk_58 12 (dk_at dksJ4_removeNode_5 15 rfl rfl)
theorem dJ4_removeNode_132 : decode cJ4_removeNode 132 = .ok (.aload_n 2, 1) := dk_44 (dk_at dksJ4_removeNode_5 17 rfl rfl)
theorem dJ4_removeNode_133 : decode cJ4_removeNode 133 = .ok (.if_acmp .eq 16, 3) := dk_165 0 16 (dk_at dksJ4_removeNode_5 18 rfl rfl)
theorem dJ4_removeNode_136 : decode cJ4_removeNode 136 = .ok (.aload_n 2, 1) := dk_44 (dk_at dksJ4_removeNode_5 21 rfl rfl)
theorem dJ4_removeNode_137 : decode cJ4_removeNode 137 = .ok (.ifnull 19, 3) := dk_198 0 19 (dk_at dksJ4_removeNode_6 0 rfl rfl)
theorem dJ4_removeNode_140 : decode cJ4_removeNode 140 = .ok (.aload_n 2, 1) := dk_44 (dk_at dksJ4_removeNode_6 3 rfl rfl)
theorem dJ4_removeNode_141 : decode cJ4_removeNode 141 = .ok (.aload 12, 2) := dk_25 12 (dk_at dksJ4_removeNode_6 4 rfl rfl)
theorem dJ4_removeNode_143 : decode cJ4_removeNode 143 = .ok (.invokevirtual 173, 3) := dk_182 0 173 (dk_at dksJ4_removeNode_6 6 rfl rfl)
theorem dJ4_removeNode_146 : decode cJ4_removeNode 146 = .ok (.ifCond .eq 10, 3) := dk_153 0 10 (dk_at dksJ4_removeNode_6 9 rfl rfl)
theorem dJ4_removeNode_149 : decode cJ4_removeNode 149 = .ok (.aload 11, 2) := dk_25 11 (dk_at dksJ4_removeNode_6 12 rfl rfl)
theorem dJ4_removeNode_151 : decode cJ4_removeNode 151 = .ok (.astore 10, 2) := dk_58 10 (dk_at dksJ4_removeNode_6 14 rfl rfl)
theorem dJ4_removeNode_153 : decode cJ4_removeNode 153 = .ok (.goto 18, 3) := dk_167 0 18 (dk_at dksJ4_removeNode_6 16 rfl rfl)
theorem dJ4_removeNode_156 : decode cJ4_removeNode 156 = .ok (.aload 11, 2) := dk_25 11 (dk_at dksJ4_removeNode_6 19 rfl rfl)
theorem dJ4_removeNode_158 : decode cJ4_removeNode 158 = .ok (.astore 7, 2) := dk_58 7 (dk_at dksJ4_removeNode_6 21 rfl rfl)
theorem dJ4_removeNode_160 : decode cJ4_removeNode 160 = .ok (.aload 11, 2) := dk_25 11 (dk_at dksJ4_removeNode_7 0 rfl rfl)
theorem dJ4_removeNode_162 : decode cJ4_removeNode 162 = .ok (.getfield 177, 3) := dk_180 0 177 (dk_at dksJ4_removeNode_7 2 rfl rfl)
theorem dJ4_removeNode_165 : decode cJ4_removeNode 165 = .ok (.dup, 1) := dk_89 (dk_at dksJ4_removeNode_7 5 rfl rfl)
theorem dJ4_removeNode_166 : decode cJ4_removeNode 166 = .ok (.astore 11, 2) := dk_58 11 (dk_at dksJ4_removeNode_7 6 rfl rfl)
theorem dJ4_removeNode_168 : decode cJ4_removeNode 168 = .ok (.ifnonnull (-53), 3) := dk_199 255 203 (dk_at dksJ4_removeNode_7 8 rfl rfl)
theorem dJ4_removeNode_171 : decode cJ4_removeNode 171 = .ok (.aload 10, 2) := dk_25 10 (dk_at dksJ4_removeNode_7 11 rfl rfl)
theorem dJ4_removeNode_173 : decode cJ4_removeNode 173 = .ok (.ifnull 116, 3) := dk_198 0 116 (dk_at dksJ4_removeNode_7 13 rfl rfl)
theorem dJ4_removeNode_176 : decode cJ4_removeNode 176 = .ok (.iload 4, 2) := dk_21 4 (dk_at dksJ4_removeNode_7 16 rfl rfl)
theorem dJ4_removeNode_178 : decode cJ4_removeNode 178 = .ok (.ifCond .eq 28, 3) := dk_153 0 28 (dk_at dksJ4_removeNode_7 18 rfl rfl)
theorem dJ4_removeNode_181 : decode cJ4_removeNode 181 = .ok (.aload 10, 2) := dk_25 10 (dk_at dksJ4_removeNode_7 21 rfl rfl)
theorem dJ4_removeNode_183 : decode cJ4_removeNode 183 = .ok (.getfield 162, 3) := dk_180 0 162 (dk_at dksJ4_removeNode_8 0 rfl rfl)
theorem dJ4_removeNode_186 : decode cJ4_removeNode 186 = .ok (.dup, 1) := dk_89 (dk_at dksJ4_removeNode_8 3 rfl rfl)
theorem dJ4_removeNode_187 : decode cJ4_removeNode 187 = .ok (.astore 13, 2) := dk_58 13 (dk_at dksJ4_removeNode_8 4 rfl rfl)
theorem dJ4_removeNode_189 : decode cJ4_removeNode 189 = .ok (.aload_n 3, 1) := dk_45 (dk_at dksJ4_removeNode_8 6 rfl rfl)
theorem dJ4_removeNode_190 : decode cJ4_removeNode 190 = .ok (.if_acmp .eq 16, 3) := dk_165 0 16 (dk_at dksJ4_removeNode_8 7 rfl rfl)
theorem dJ4_removeNode_193 : decode cJ4_removeNode 193 = .ok (.aload_n 3, 1) := dk_45 (dk_at dksJ4_removeNode_8 10 rfl rfl)
theorem dJ4_removeNode_194 : decode cJ4_removeNode 194 = .ok (.ifnull 95, 3) := dk_198 0 95 (dk_at dksJ4_removeNode_8 11 rfl rfl)
theorem dJ4_removeNode_197 : decode cJ4_removeNode 197 = .ok (.aload_n 3, 1) := dk_45 (dk_at dksJ4_removeNode_8 14 rfl rfl)
theorem dJ4_removeNode_198 : decode cJ4_removeNode 198 = .ok (.aload 13, 2) := dk_25 13 (dk_at dksJ4_removeNode_8 15 rfl rfl)
theorem dJ4_removeNode_200 : decode cJ4_removeNode 200 = .ok (.invokevirtual 173, 3) := dk_182 0 173 (dk_at dksJ4_removeNode_8 17 rfl rfl)
theorem dJ4_removeNode_203 : decode cJ4_removeNode 203 = .ok (.ifCond .eq 86, 3) := dk_153 0 86 (dk_at dksJ4_removeNode_8 20 rfl rfl)
theorem dJ4_removeNode_206 : decode cJ4_removeNode 206 = .ok (.aload 10, 2) := dk_25 10 (dk_at dksJ4_removeNode_9 0 rfl rfl)
theorem dJ4_removeNode_208 : decode cJ4_removeNode 208 = .ok (.instanceof 180, 3) := dk_193 0 180 (dk_at dksJ4_removeNode_9 2 rfl rfl)
theorem dJ4_removeNode_211 : decode cJ4_removeNode 211 = .ok (.ifCond .eq 19, 3) := dk_153 0 19 (dk_at dksJ4_removeNode_9 5 rfl rfl)
theorem dJ4_removeNode_214 : decode cJ4_removeNode 214 = .ok (.aload 10, 2) := dk_25 10 (dk_at dksJ4_removeNode_9 8 rfl rfl)
theorem dJ4_removeNode_216 : decode cJ4_removeNode 216 = .ok (.checkcast 180, 3) := dk_192 0 180 (dk_at dksJ4_removeNode_9 10 rfl rfl)
theorem dJ4_removeNode_219 : decode cJ4_removeNode 219 = .ok (.aload_n 0, 1) := dk_42 (dk_at dksJ4_removeNode_9 13 rfl rfl)
theorem dJ4_removeNode_220 : decode cJ4_removeNode 220 = .ok (.aload 6, 2) := dk_25 6 (dk_at dksJ4_removeNode_9 14 rfl rfl)
theorem dJ4_removeNode_222 : decode cJ4_removeNode 222 = .ok (.iload 5, 2) := dk_21 5 (dk_at dksJ4_removeNode_9 16 rfl rfl)
theorem dJ4_removeNode_224 : decode cJ4_removeNode 224 = .ok (.invokevirtual 232, 3) := dk_182 0 232 (dk_at dksJ4_removeNode_9 18 rfl rfl)
theorem dJ4_removeNode_227 : decode cJ4_removeNode 227 = .ok (.goto 33, 3) := dk_167 0 33 (dk_at dksJ4_removeNode_9 21 rfl rfl)
theorem dJ4_removeNode_230 : decode cJ4_removeNode 230 = .ok (.aload 10, 2) := dk_25 10 (dk_at dksJ4_removeNode_10 0 rfl rfl)
theorem dJ4_removeNode_232 : decode cJ4_removeNode 232 = .ok (.aload 7, 2) := dk_25 7 (dk_at dksJ4_removeNode_10 2 rfl rfl)
theorem dJ4_removeNode_234 : decode cJ4_removeNode 234 = .ok (.if_acmp .ne 16, 3) := dk_166 0 16 (dk_at dksJ4_removeNode_10 4 rfl rfl)
theorem dJ4_removeNode_237 : decode cJ4_removeNode 237 = .ok (.aload 6, 2) := dk_25 6 (dk_at dksJ4_removeNode_10 7 rfl rfl)
theorem dJ4_removeNode_239 : decode cJ4_removeNode 239 = .ok (.iload 9, 2) := dk_21 9 (dk_at dksJ4_removeNode_10 9 rfl rfl)
theorem dJ4_removeNode_241 : decode cJ4_removeNode 241 = .ok (.aload 10, 2) := dk_25 10 (dk_at dksJ4_removeNode_10 11 rfl rfl)
theorem dJ4_removeNode_243 : decode cJ4_removeNode 243 = .ok (.getfield 177, 3) := dk_180 0 177 (dk_at dksJ4_removeNode_10 13 rfl rfl)
theorem dJ4_removeNode_246 : decode cJ4_removeNode 246 = .ok (.aastore, 1) := dk_83 (dk_at dksJ4_removeNode_10 16 rfl rfl)
theorem dJ4_removeNode_247 : decode cJ4_removeNode 247 = .ok (.goto 13, 3) := dk_167 0 13 (dk_at dksJ4_removeNode_10 17 rfl rfl)
theorem dJ4_removeNode_250 : decode cJ4_removeNode 250 = .ok (.aload 7, 2) := dk_25 7 (dk_at dksJ4_removeNode_10 20 rfl rfl)
theorem dJ4_removeNode_252 : decode cJ4_removeNode 252 = .ok (.aload 10, 2) := dk_25 10 (dk_at dksJ4_removeNode_10 22 rfl rfl)
theorem dJ4_removeNode_254 : decode cJ4_removeNode 254 = .ok (.getfield 177, 3) := dk_180 0 177 (dk_at dksJ4_removeNode_11 0 rfl rfl)
theorem dJ4_removeNode_257 : decode cJ4_removeNode 257 = .ok (.putfield 177, 3) := dk_181 0 177 (dk_at dksJ4_removeNode_11 3 rfl rfl)
theorem dJ4_removeNode_260 : decode cJ4_removeNode 260 = .ok (.aload_n 0, 1) := dk_42 (dk_at dksJ4_removeNode_11 6 rfl rfl)
theorem dJ4_removeNode_261 : decode cJ4_removeNode 261 = .ok (.dup, 1) := dk_89 (dk_at dksJ4_removeNode_11 7 rfl rfl)
theorem dJ4_removeNode_262 : decode cJ4_removeNode 262 = .ok (.getfield 202, 3) := dk_180 0 202 (dk_at dksJ4_removeNode_11 8 rfl rfl)
theorem dJ4_removeNode_265 : decode cJ4_removeNode 265 = .ok (.iconst 1, 1) := dk_4 (dk_at dksJ4_removeNode_11 11 rfl rfl)
theorem dJ4_removeNode_266 : decode cJ4_removeNode 266 = .ok (.iadd, 1) := dk_96 (dk_at dksJ4_removeNode_11 12 rfl rfl)
theorem dJ4_removeNode_267 : decode cJ4_removeNode 267 = .ok (.putfield 202, 3) := dk_181 0 202 (dk_at dksJ4_removeNode_11 13 rfl rfl)
theorem dJ4_removeNode_270 : decode cJ4_removeNode 270 = .ok (.aload_n 0, 1) := dk_42 (dk_at dksJ4_removeNode_11 16 rfl rfl)
theorem dJ4_removeNode_271 : decode cJ4_removeNode 271 = .ok (.dup, 1) := dk_89 (dk_at dksJ4_removeNode_11 17 rfl rfl)
theorem dJ4_removeNode_272 : decode cJ4_removeNode 272 = .ok (.getfield 156, 3) := dk_180 0 156 (dk_at dksJ4_removeNode_11 18 rfl rfl)
theorem dJ4_removeNode_275 : decode cJ4_removeNode 275 = .ok (.iconst 1, 1) := dk_4 (dk_at dksJ4_removeNode_11 21 rfl rfl)
theorem dJ4_removeNode_276 : decode cJ4_removeNode 276 = .ok (.isub, 1) := dk_100 (dk_at dksJ4_removeNode_11 22 rfl rfl)
theorem dJ4_removeNode_277 : decode cJ4_removeNode 277 = .ok (.putfield 156, 3) := dk_181 0 156 (dk_at dksJ4_removeNode_12 0 rfl rfl)
theorem dJ4_removeNode_280 : decode cJ4_removeNode 280 = .ok (.aload_n 0, 1) := dk_42 (dk_at dksJ4_removeNode_12 3 rfl rfl)
theorem dJ4_removeNode_281 : decode cJ4_removeNode 281 = .ok (.aload 10, 2) := dk_25 10 (dk_at dksJ4_removeNode_12 4 rfl rfl)
theorem dJ4_removeNode_283 : decode cJ4_removeNode 283 = .ok (.invokevirtual 236, 3) := dk_182 0 236 (dk_at dksJ4_removeNode_12 6 rfl rfl)
theorem dJ4_removeNode_286 : decode cJ4_removeNode 286 = .ok (.aload 10, 2) := dk_25 10 (dk_at dksJ4_removeNode_12 9 rfl rfl)
theorem dJ4_removeNode_288 : decode cJ4_removeNode 288 = .ok (.areturn, 1) := dk_176 (dk_at dksJ4_removeNode_12 11 rfl rfl)
theorem dJ4_removeNode_289 : decode cJ4_removeNode 289 = .ok (.aconst_null, 1) := dk_1 (dk_at dksJ4_removeNode_12 12 rfl rfl)
theorem dJ4_removeNode_290 : decode cJ4_removeNode 290 = .ok (.areturn, 1) := dk_176 (dk_at dksJ4_removeNode_12 13 rfl rfl)
abbrev cJ4_afterNodeRemoval : ByteArray := prog_39_method_53_code
def yJ4_afterNodeRemoval : MethodName := ⟨RJ4, "afterNodeRemoval", "(Ljava/util/HashMap$Node;)V"⟩
theorem dJ4_afterNodeRemoval_0 : decode cJ4_afterNodeRemoval 0 = .ok (.return_, 1) := by decide +kernel
abbrev cJ4_containsKey : ByteArray := prog_39_method_14_code
def yJ4_containsKey : MethodName := ⟨RJ4, "containsKey", "(Ljava/lang/Object;)Z"⟩
def dkwJ4_containsKey_0 : List UInt8 := [42, 43, 182, 0, 158, 198, 0, 7, 4, 167, 0, 4, 3, 172]
abbrev dktJ4_containsKey_0 : List UInt8 := dkwJ4_containsKey_0 ++ []
theorem dksJ4_containsKey_0 : cJ4_containsKey.data.toList.drop 0 = dktJ4_containsKey_0 := by decide +kernel
theorem dJ4_containsKey_0 : decode cJ4_containsKey 0 = .ok (.aload_n 0, 1) := dk_42 (dk_at dksJ4_containsKey_0 0 rfl rfl)
theorem dJ4_containsKey_1 : decode cJ4_containsKey 1 = .ok (.aload_n 1, 1) := dk_43 (dk_at dksJ4_containsKey_0 1 rfl rfl)
theorem dJ4_containsKey_2 : decode cJ4_containsKey 2 = .ok (.invokevirtual 158, 3) := dk_182 0 158 (dk_at dksJ4_containsKey_0 2 rfl rfl)
theorem dJ4_containsKey_5 : decode cJ4_containsKey 5 = .ok (.ifnull 7, 3) := dk_198 0 7 (dk_at dksJ4_containsKey_0 5 rfl rfl)
theorem dJ4_containsKey_8 : decode cJ4_containsKey 8 = .ok (.iconst 1, 1) := dk_4 (dk_at dksJ4_containsKey_0 8 rfl rfl)
theorem dJ4_containsKey_9 : decode cJ4_containsKey 9 = .ok (.goto 4, 3) := dk_167 0 4 (dk_at dksJ4_containsKey_0 9 rfl rfl)
theorem dJ4_containsKey_12 : decode cJ4_containsKey 12 = .ok (.iconst 0, 1) := dk_3 (dk_at dksJ4_containsKey_0 12 rfl rfl)
theorem dJ4_containsKey_13 : decode cJ4_containsKey 13 = .ok (.ireturn, 1) := dk_172 (dk_at dksJ4_containsKey_0 13 rfl rfl)
theorem q37 : (Jvm.Cond.initialized "java/util/HashMap") ∈ lw_all := lw_g (lw_at lw_m1 7 rfl) rfl
theorem q128 : (Jvm.Cond.instanceMethod ({ cls := "java/util/HashMap", name := "<init>", desc := "()V" } : Jvm.MethodName)) ∈ lw_all := lw_g (lw_at lw_m1 98 rfl) rfl
theorem q129 : (Jvm.Cond.code ({ cls := "java/util/HashMap", name := "<init>", desc := "()V" } : Jvm.MethodName) prog_39_method_7_code (1 : Nat) (Option.none : Option Jvm.ClassFile.FieldType)) ∈ lw_all := lw_g (lw_at lw_m1 99 rfl) rfl
theorem q130 : (Jvm.Cond.methodLink "java/util/HashMap" (43 : Nat) ({ cls := "java/util/AbstractMap", name := "<init>", desc := "()V" } : Jvm.MethodName)) ∈ lw_all := lw_g (lw_at lw_m1 100 rfl) rfl
theorem q134 : (Jvm.Cond.constantFloat "java/util/HashMap" (92 : Nat) (1061158912 : UInt32)) ∈ lw_all := lw_g (lw_at lw_m1 104 rfl) rfl
theorem q142 : (Jvm.Cond.fieldLink "java/util/HashMap" (105 : Nat) "java/util/HashMap" "table" "[Ljava/util/HashMap$Node;") ∈ lw_all := lw_g (lw_at lw_m1 112 rfl) rfl
theorem q143 : (Jvm.Cond.fieldLink "java/util/HashMap" (266 : Nat) "java/util/HashMap" "entrySet" "Ljava/util/Set;") ∈ lw_all := lw_g (lw_at lw_m1 113 rfl) rfl
theorem q147 : (Jvm.Cond.fieldLink "java/util/HashMap" (156 : Nat) "java/util/HashMap" "size" "I") ∈ lw_all := lw_g (lw_at lw_m1 117 rfl) rfl
theorem q152 : (Jvm.Cond.fieldLink "java/util/HashMap" (202 : Nat) "java/util/HashMap" "modCount" "I") ∈ lw_all := lw_g (lw_at lw_m1 122 rfl) rfl
theorem q153 : (Jvm.Cond.fieldLink "java/util/HashMap" (88 : Nat) "java/util/HashMap" "threshold" "I") ∈ lw_all := lw_g (lw_at lw_m1 123 rfl) rfl
theorem q154 : (Jvm.Cond.fieldLink "java/util/HashMap" (81 : Nat) "java/util/HashMap" "loadFactor" "F") ∈ lw_all := lw_g (lw_at lw_m1 124 rfl) rfl
theorem q155 : (Jvm.Cond.fieldLink "java/util/HashMap" (239 : Nat) "java/util/HashMap" "keySet" "Ljava/util/Set;") ∈ lw_all := lw_g (lw_at lw_m1 125 rfl) rfl
theorem q156 : (Jvm.Cond.sameField "java/util/HashMap" "java/util/AbstractMap" "keySet" "Ljava/util/Set;") ∈ lw_all := lw_g (lw_at lw_m1 126 rfl) rfl
theorem q168 : (Jvm.Cond.soleField "java/util/HashMap" "table") ∈ lw_all := lw_g (lw_at lw_m1 138 rfl) rfl
theorem q170 : (Jvm.Cond.soleField "java/util/HashMap" "entrySet") ∈ lw_all := lw_g (lw_at lw_m1 140 rfl) rfl
theorem q172 : (Jvm.Cond.soleField "java/util/HashMap" "size") ∈ lw_all := lw_g (lw_at lw_m1 142 rfl) rfl
theorem q174 : (Jvm.Cond.soleField "java/util/HashMap" "modCount") ∈ lw_all := lw_g (lw_at lw_m1 144 rfl) rfl
theorem q176 : (Jvm.Cond.soleField "java/util/HashMap" "threshold") ∈ lw_all := lw_g (lw_at lw_m1 146 rfl) rfl
theorem q178 : (Jvm.Cond.soleField "java/util/HashMap" "loadFactor") ∈ lw_all := lw_g (lw_at lw_m1 148 rfl) rfl
theorem q548 : (Jvm.Cond.selects "java/util/HashMap" ({ cls := "java/lang/Object", name := "getClass", desc := "()Ljava/lang/Class;" } : Jvm.MethodName) ({ cls := "java/lang/Object", name := "getClass", desc := "()Ljava/lang/Class;" } : Jvm.MethodName)) ∈ lw_all := lw_g (lw_at lw_m3 38 rfl) rfl
theorem q583 : (Jvm.Cond.castable "java/util/HashMap" "java/util/Map") ∈ lw_tbl := lw_at lw_m3 73 rfl
theorem q584 : (Jvm.Cond.selects "java/util/HashMap" ({ cls := "java/util/Map", name := "entrySet", desc := "()Ljava/util/Set;" } : Jvm.MethodName) ({ cls := "java/util/HashMap", name := "entrySet", desc := "()Ljava/util/Set;" } : Jvm.MethodName)) ∈ lw_all := lw_g (lw_at lw_m3 74 rfl) rfl
theorem q585 : (Jvm.Cond.unhidden "java/util/HashMap" "entrySet" "()Ljava/util/Set;") ∈ lw_tbl := lw_at lw_m3 75 rfl
theorem q586 : (Jvm.Cond.instanceMethod ({ cls := "java/util/HashMap", name := "entrySet", desc := "()Ljava/util/Set;" } : Jvm.MethodName)) ∈ lw_all := lw_g (lw_at lw_m3 76 rfl) rfl
theorem q587 : (Jvm.Cond.publicMethod ({ cls := "java/util/HashMap", name := "entrySet", desc := "()Ljava/util/Set;" } : Jvm.MethodName)) ∈ lw_tbl := lw_at lw_m3 77 rfl
theorem q588 : (Jvm.Cond.code ({ cls := "java/util/HashMap", name := "entrySet", desc := "()Ljava/util/Set;" } : Jvm.MethodName) prog_39_method_29_code (2 : Nat) (Option.some (Jvm.ClassFile.FieldType.object "java/util/Set"))) ∈ lw_all := lw_g (lw_at lw_m3 78 rfl) rfl
theorem q589 : (Jvm.Cond.classLink "java/util/HashMap" (268 : Nat) "java/util/HashMap$EntrySet") ∈ lw_all := lw_g (lw_at lw_m3 79 rfl) rfl
theorem q591 : (Jvm.Cond.methodLink "java/util/HashMap" (270 : Nat) ({ cls := "java/util/HashMap$EntrySet", name := "<init>", desc := "(Ljava/util/HashMap;)V" } : Jvm.MethodName)) ∈ lw_all := lw_g (lw_at lw_m3 81 rfl) rfl
theorem q686 : (Jvm.Cond.instanceMethod ({ cls := "java/util/HashMap", name := "keySet", desc := "()Ljava/util/Set;" } : Jvm.MethodName)) ∈ lw_all := lw_g (lw_at lw_m3 176 rfl) rfl
theorem q687 : (Jvm.Cond.selects "java/util/HashMap" ({ cls := "java/util/HashMap", name := "keySet", desc := "()Ljava/util/Set;" } : Jvm.MethodName) ({ cls := "java/util/HashMap", name := "keySet", desc := "()Ljava/util/Set;" } : Jvm.MethodName)) ∈ lw_all := lw_g (lw_at lw_m3 177 rfl) rfl
theorem q688 : (Jvm.Cond.sameMethod "java/util/HashMap" "java/util/HashMap" "keySet" "()Ljava/util/Set;") ∈ lw_all := lw_g (lw_at lw_m3 178 rfl) rfl
theorem q709 : (Jvm.Cond.code ({ cls := "java/util/HashMap", name := "keySet", desc := "()Ljava/util/Set;" } : Jvm.MethodName) prog_39_method_24_code (2 : Nat) (Option.some (Jvm.ClassFile.FieldType.object "java/util/Set"))) ∈ lw_all := lw_g (lw_at lw_m3 199 rfl) rfl
theorem q710 : (Jvm.Cond.classLink "java/util/HashMap" (243 : Nat) "java/util/HashMap$KeySet") ∈ lw_all := lw_g (lw_at lw_m3 200 rfl) rfl
theorem q712 : (Jvm.Cond.methodLink "java/util/HashMap" (245 : Nat) ({ cls := "java/util/HashMap$KeySet", name := "<init>", desc := "(Ljava/util/HashMap;)V" } : Jvm.MethodName)) ∈ lw_all := lw_g (lw_at lw_m3 202 rfl) rfl
theorem q805 : (Jvm.Cond.selects "java/util/HashMap" ({ cls := "java/util/Map", name := "put", desc := "(Ljava/lang/Object;Ljava/lang/Object;)Ljava/lang/Object;" } : Jvm.MethodName) ({ cls := "java/util/HashMap", name := "put", desc := "(Ljava/lang/Object;Ljava/lang/Object;)Ljava/lang/Object;" } : Jvm.MethodName)) ∈ lw_all := lw_g (lw_at lw_m4 55 rfl) rfl
theorem q806 : (Jvm.Cond.unhidden "java/util/HashMap" "put" "(Ljava/lang/Object;Ljava/lang/Object;)Ljava/lang/Object;") ∈ lw_tbl := lw_at lw_m4 56 rfl
theorem q807 : (Jvm.Cond.instanceMethod ({ cls := "java/util/HashMap", name := "put", desc := "(Ljava/lang/Object;Ljava/lang/Object;)Ljava/lang/Object;" } : Jvm.MethodName)) ∈ lw_all := lw_g (lw_at lw_m4 57 rfl) rfl
theorem q808 : (Jvm.Cond.publicMethod ({ cls := "java/util/HashMap", name := "put", desc := "(Ljava/lang/Object;Ljava/lang/Object;)Ljava/lang/Object;" } : Jvm.MethodName)) ∈ lw_tbl := lw_at lw_m4 58 rfl
theorem q809 : (Jvm.Cond.code ({ cls := "java/util/HashMap", name := "put", desc := "(Ljava/lang/Object;Ljava/lang/Object;)Ljava/lang/Object;" } : Jvm.MethodName) prog_39_method_15_code (3 : Nat) (Option.some (Jvm.ClassFile.FieldType.object "java/lang/Object"))) ∈ lw_all := lw_g (lw_at lw_m4 59 rfl) rfl
theorem q810 : (Jvm.Cond.methodLink "java/util/HashMap" (149 : Nat) ({ cls := "java/util/HashMap", name := "hash", desc := "(Ljava/lang/Object;)I" } : Jvm.MethodName)) ∈ lw_all := lw_g (lw_at lw_m4 60 rfl) rfl
theorem q811 : (Jvm.Cond.static ({ cls := "java/util/HashMap", name := "hash", desc := "(Ljava/lang/Object;)I" } : Jvm.MethodName)) ∈ lw_all := lw_g (lw_at lw_m4 61 rfl) rfl
theorem q812 : (Jvm.Cond.code ({ cls := "java/util/HashMap", name := "hash", desc := "(Ljava/lang/Object;)I" } : Jvm.MethodName) prog_39_method_1_code (2 : Nat) (Option.some Jvm.ClassFile.FieldType.int)) ∈ lw_all := lw_g (lw_at lw_m4 62 rfl) rfl
theorem q814 : (Jvm.Cond.methodLink "java/util/HashMap" (1 : Nat) ({ cls := "java/lang/Object", name := "hashCode", desc := "()I" } : Jvm.MethodName)) ∈ lw_all := lw_g (lw_at lw_m4 64 rfl) rfl
theorem q903 : (Jvm.Cond.methodLink "java/util/HashMap" (152 : Nat) ({ cls := "java/util/HashMap", name := "putVal", desc := "(ILjava/lang/Object;Ljava/lang/Object;ZZ)Ljava/lang/Object;" } : Jvm.MethodName)) ∈ lw_all := lw_g (lw_at lw_m4 153 rfl) rfl
theorem q904 : (Jvm.Cond.instanceMethod ({ cls := "java/util/HashMap", name := "putVal", desc := "(ILjava/lang/Object;Ljava/lang/Object;ZZ)Ljava/lang/Object;" } : Jvm.MethodName)) ∈ lw_all := lw_g (lw_at lw_m4 154 rfl) rfl
theorem q905 : (Jvm.Cond.selects "java/util/HashMap" ({ cls := "java/util/HashMap", name := "putVal", desc := "(ILjava/lang/Object;Ljava/lang/Object;ZZ)Ljava/lang/Object;" } : Jvm.MethodName) ({ cls := "java/util/HashMap", name := "putVal", desc := "(ILjava/lang/Object;Ljava/lang/Object;ZZ)Ljava/lang/Object;" } : Jvm.MethodName)) ∈ lw_all := lw_g (lw_at lw_m4 155 rfl) rfl
theorem q906 : (Jvm.Cond.sameMethod "java/util/HashMap" "java/util/HashMap" "putVal" "(ILjava/lang/Object;Ljava/lang/Object;ZZ)Ljava/lang/Object;") ∈ lw_all := lw_g (lw_at lw_m4 156 rfl) rfl
theorem q908 : (Jvm.Cond.code ({ cls := "java/util/HashMap", name := "putVal", desc := "(ILjava/lang/Object;Ljava/lang/Object;ZZ)Ljava/lang/Object;" } : Jvm.MethodName) prog_39_method_16_code (13 : Nat) (Option.some (Jvm.ClassFile.FieldType.object "java/lang/Object"))) ∈ lw_all := lw_g (lw_at lw_m4 158 rfl) rfl
theorem q909 : (Jvm.Cond.methodLink "java/util/HashMap" (117 : Nat) ({ cls := "java/util/HashMap", name := "resize", desc := "()[Ljava/util/HashMap$Node;" } : Jvm.MethodName)) ∈ lw_all := lw_g (lw_at lw_m4 159 rfl) rfl
theorem q910 : (Jvm.Cond.instanceMethod ({ cls := "java/util/HashMap", name := "resize", desc := "()[Ljava/util/HashMap$Node;" } : Jvm.MethodName)) ∈ lw_all := lw_g (lw_at lw_m4 160 rfl) rfl
theorem q911 : (Jvm.Cond.selects "java/util/HashMap" ({ cls := "java/util/HashMap", name := "resize", desc := "()[Ljava/util/HashMap$Node;" } : Jvm.MethodName) ({ cls := "java/util/HashMap", name := "resize", desc := "()[Ljava/util/HashMap$Node;" } : Jvm.MethodName)) ∈ lw_all := lw_g (lw_at lw_m4 161 rfl) rfl
theorem q912 : (Jvm.Cond.sameMethod "java/util/HashMap" "java/util/HashMap" "resize" "()[Ljava/util/HashMap$Node;") ∈ lw_all := lw_g (lw_at lw_m4 162 rfl) rfl
theorem q914 : (Jvm.Cond.code ({ cls := "java/util/HashMap", name := "resize", desc := "()[Ljava/util/HashMap$Node;" } : Jvm.MethodName) prog_39_method_17_code (14 : Nat) (Option.some (Jvm.ClassFile.FieldType.array (Jvm.ClassFile.FieldType.object "java/util/HashMap$Node")))) ∈ lw_all := lw_g (lw_at lw_m4 164 rfl) rfl
theorem q915 : (Jvm.Cond.constant "java/util/HashMap" (42 : Nat) (1073741824 : Int32)) ∈ lw_all := lw_g (lw_at lw_m4 165 rfl) rfl
theorem q916 : (Jvm.Cond.constant "java/util/HashMap" (209 : Nat) (2147483647 : Int32)) ∈ lw_all := lw_g (lw_at lw_m4 166 rfl) rfl
theorem q917 : (Jvm.Cond.constantFloat "java/util/HashMap" (210 : Nat) (1317011456 : UInt32)) ∈ lw_all := lw_g (lw_at lw_m4 167 rfl) rfl
theorem q918 : (Jvm.Cond.classLink "java/util/HashMap" (163 : Nat) "java/util/HashMap$Node") ∈ lw_all := lw_g (lw_at lw_m4 168 rfl) rfl
theorem q920 : (Jvm.Cond.classLink "java/util/HashMap" (180 : Nat) "java/util/HashMap$TreeNode") ∈ lw_all := lw_g (lw_at lw_m4 170 rfl) rfl
theorem q921 : (Jvm.Cond.methodLink "java/util/HashMap" (211 : Nat) ({ cls := "java/util/HashMap$TreeNode", name := "split", desc := "(Ljava/util/HashMap;[Ljava/util/HashMap$Node;II)V" } : Jvm.MethodName)) ∈ lw_all := lw_g (lw_at lw_m4 171 rfl) rfl
theorem q931 : (Jvm.Cond.instanceMethod ({ cls := "java/util/HashMap", name := "replacementNode", desc := "(Ljava/util/HashMap$Node;Ljava/util/HashMap$Node;)Ljava/util/HashMap$Node;" } : Jvm.MethodName)) ∈ lw_all := lw_g (lw_at lw_m4 181 rfl) rfl
theorem q932 : (Jvm.Cond.selects "java/util/HashMap" ({ cls := "java/util/HashMap", name := "replacementNode", desc := "(Ljava/util/HashMap$Node;Ljava/util/HashMap$Node;)Ljava/util/HashMap$Node;" } : Jvm.MethodName) ({ cls := "java/util/HashMap", name := "replacementNode", desc := "(Ljava/util/HashMap$Node;Ljava/util/HashMap$Node;)Ljava/util/HashMap$Node;" } : Jvm.MethodName)) ∈ lw_all := lw_g (lw_at lw_m4 182 rfl) rfl
theorem q933 : (Jvm.Cond.sameMethod "java/util/HashMap" "java/util/HashMap" "replacementNode" "(Ljava/util/HashMap$Node;Ljava/util/HashMap$Node;)Ljava/util/HashMap$Node;") ∈ lw_all := lw_g (lw_at lw_m4 183 rfl) rfl
theorem q955 : (Jvm.Cond.fieldLink "java/util/HashMap" (168 : Nat) "java/util/HashMap$Node" "hash" "I") ∈ lw_all := lw_g (lw_at lw_m4 205 rfl) rfl
theorem q962 : (Jvm.Cond.fieldLink "java/util/HashMap" (170 : Nat) "java/util/HashMap$Node" "key" "Ljava/lang/Object;") ∈ lw_all := lw_g (lw_at lw_m4 212 rfl) rfl
theorem q966 : (Jvm.Cond.fieldLink "java/util/HashMap" (162 : Nat) "java/util/HashMap$Node" "value" "Ljava/lang/Object;") ∈ lw_all := lw_g (lw_at lw_m4 216 rfl) rfl
theorem q973 : (Jvm.Cond.fieldLink "java/util/HashMap" (177 : Nat) "java/util/HashMap$Node" "next" "Ljava/util/HashMap$Node;") ∈ lw_all := lw_g (lw_at lw_m4 223 rfl) rfl
theorem q974 : (Jvm.Cond.fieldLink "java/util/HashMap" (223 : Nat) "java/util/HashMap$TreeNode" "next" "Ljava/util/HashMap$Node;") ∈ lw_all := lw_g (lw_at lw_m4 224 rfl) rfl
theorem q992 : (Jvm.Cond.code ({ cls := "java/util/HashMap", name := "replacementNode", desc := "(Ljava/util/HashMap$Node;Ljava/util/HashMap$Node;)Ljava/util/HashMap$Node;" } : Jvm.MethodName) prog_39_method_47_code (3 : Nat) (Option.some (Jvm.ClassFile.FieldType.object "java/util/HashMap$Node"))) ∈ lw_all := lw_g (lw_at lw_m5 2 rfl) rfl
theorem q994 : (Jvm.Cond.methodLink "java/util/HashMap" (375 : Nat) ({ cls := "java/util/HashMap$Node", name := "<init>", desc := "(ILjava/lang/Object;Ljava/lang/Object;Ljava/util/HashMap$Node;)V" } : Jvm.MethodName)) ∈ lw_all := lw_g (lw_at lw_m5 4 rfl) rfl
theorem q1005 : (Jvm.Cond.static ({ cls := "java/util/HashMap", name := "comparableClassFor", desc := "(Ljava/lang/Object;)Ljava/lang/Class;" } : Jvm.MethodName)) ∈ lw_all := lw_g (lw_at lw_m5 15 rfl) rfl
theorem q1006 : (Jvm.Cond.code ({ cls := "java/util/HashMap", name := "comparableClassFor", desc := "(Ljava/lang/Object;)Ljava/lang/Class;" } : Jvm.MethodName) prog_39_method_2_code (9 : Nat) (Option.some (Jvm.ClassFile.FieldType.object "java/lang/Class"))) ∈ lw_all := lw_g (lw_at lw_m5 16 rfl) rfl
theorem q1007 : (Jvm.Cond.classLink "java/util/HashMap" (7 : Nat) "java/lang/Comparable") ∈ lw_all := lw_g (lw_at lw_m5 17 rfl) rfl
theorem q1008 : (Jvm.Cond.methodLink "java/util/HashMap" (9 : Nat) ({ cls := "java/lang/Object", name := "getClass", desc := "()Ljava/lang/Class;" } : Jvm.MethodName)) ∈ lw_all := lw_g (lw_at lw_m5 18 rfl) rfl
theorem q1009 : (Jvm.Cond.classLink "java/util/HashMap" (13 : Nat) "java/lang/String") ∈ lw_all := lw_g (lw_at lw_m5 19 rfl) rfl
theorem q1011 : (Jvm.Cond.static ({ cls := "java/util/HashMap", name := "compareComparables", desc := "(Ljava/lang/Class;Ljava/lang/Object;Ljava/lang/Object;)I" } : Jvm.MethodName)) ∈ lw_all := lw_g (lw_at lw_m5 21 rfl) rfl
theorem q1012 : (Jvm.Cond.code ({ cls := "java/util/HashMap", name := "compareComparables", desc := "(Ljava/lang/Class;Ljava/lang/Object;Ljava/lang/Object;)I" } : Jvm.MethodName) prog_39_method_3_code (3 : Nat) (Option.some Jvm.ClassFile.FieldType.int)) ∈ lw_all := lw_g (lw_at lw_m5 22 rfl) rfl
theorem q1013 : (Jvm.Cond.interfaceEntry "java/util/HashMap" (30 : Nat)) ∈ lw_tbl := lw_at lw_m5 23 rfl
theorem q1014 : (Jvm.Cond.methodLink "java/util/HashMap" (30 : Nat) ({ cls := "java/lang/Comparable", name := "compareTo", desc := "(Ljava/lang/Object;)I" } : Jvm.MethodName)) ∈ lw_all := lw_g (lw_at lw_m5 24 rfl) rfl
theorem q1238 : (Jvm.Cond.methodLink "java/util/HashMap" (186 : Nat) ({ cls := "java/util/HashMap", name := "newNode", desc := "(ILjava/lang/Object;Ljava/lang/Object;Ljava/util/HashMap$Node;)Ljava/util/HashMap$Node;" } : Jvm.MethodName)) ∈ lw_all := lw_g (lw_at lw_m6 8 rfl) rfl
theorem q1239 : (Jvm.Cond.instanceMethod ({ cls := "java/util/HashMap", name := "newNode", desc := "(ILjava/lang/Object;Ljava/lang/Object;Ljava/util/HashMap$Node;)Ljava/util/HashMap$Node;" } : Jvm.MethodName)) ∈ lw_all := lw_g (lw_at lw_m6 9 rfl) rfl
theorem q1240 : (Jvm.Cond.selects "java/util/HashMap" ({ cls := "java/util/HashMap", name := "newNode", desc := "(ILjava/lang/Object;Ljava/lang/Object;Ljava/util/HashMap$Node;)Ljava/util/HashMap$Node;" } : Jvm.MethodName) ({ cls := "java/util/HashMap", name := "newNode", desc := "(ILjava/lang/Object;Ljava/lang/Object;Ljava/util/HashMap$Node;)Ljava/util/HashMap$Node;" } : Jvm.MethodName)) ∈ lw_all := lw_g (lw_at lw_m6 10 rfl) rfl
theorem q1241 : (Jvm.Cond.sameMethod "java/util/HashMap" "java/util/HashMap" "newNode" "(ILjava/lang/Object;Ljava/lang/Object;Ljava/util/HashMap$Node;)Ljava/util/HashMap$Node;") ∈ lw_all := lw_g (lw_at lw_m6 11 rfl) rfl
theorem q1249 : (Jvm.Cond.code ({ cls := "java/util/HashMap", name := "newNode", desc := "(ILjava/lang/Object;Ljava/lang/Object;Ljava/util/HashMap$Node;)Ljava/util/HashMap$Node;" } : Jvm.MethodName) prog_39_method_46_code (5 : Nat) (Option.some (Jvm.ClassFile.FieldType.object "java/util/HashMap$Node"))) ∈ lw_all := lw_g (lw_at lw_m6 19 rfl) rfl
theorem q1251 : (Jvm.Cond.methodLink "java/util/HashMap" (173 : Nat) ({ cls := "java/lang/Object", name := "equals", desc := "(Ljava/lang/Object;)Z" } : Jvm.MethodName)) ∈ lw_all := lw_g (lw_at lw_m6 21 rfl) rfl
theorem q1283 : (Jvm.Cond.methodLink "java/util/HashMap" (190 : Nat) ({ cls := "java/util/HashMap$TreeNode", name := "putTreeVal", desc := "(Ljava/util/HashMap;[Ljava/util/HashMap$Node;ILjava/lang/Object;Ljava/lang/Object;)Ljava/util/HashMap$TreeNode;" } : Jvm.MethodName)) ∈ lw_all := lw_g (lw_at lw_m6 53 rfl) rfl
theorem q1297 : (Jvm.Cond.instanceMethod ({ cls := "java/util/HashMap", name := "newTreeNode", desc := "(ILjava/lang/Object;Ljava/lang/Object;Ljava/util/HashMap$Node;)Ljava/util/HashMap$TreeNode;" } : Jvm.MethodName)) ∈ lw_all := lw_g (lw_at lw_m6 67 rfl) rfl
theorem q1298 : (Jvm.Cond.selects "java/util/HashMap" ({ cls := "java/util/HashMap", name := "newTreeNode", desc := "(ILjava/lang/Object;Ljava/lang/Object;Ljava/util/HashMap$Node;)Ljava/util/HashMap$TreeNode;" } : Jvm.MethodName) ({ cls := "java/util/HashMap", name := "newTreeNode", desc := "(ILjava/lang/Object;Ljava/lang/Object;Ljava/util/HashMap$Node;)Ljava/util/HashMap$TreeNode;" } : Jvm.MethodName)) ∈ lw_all := lw_g (lw_at lw_m6 68 rfl) rfl
theorem q1299 : (Jvm.Cond.sameMethod "java/util/HashMap" "java/util/HashMap" "newTreeNode" "(ILjava/lang/Object;Ljava/lang/Object;Ljava/util/HashMap$Node;)Ljava/util/HashMap$TreeNode;") ∈ lw_all := lw_g (lw_at lw_m6 69 rfl) rfl
theorem q1313 : (Jvm.Cond.fieldLink "java/util/HashMap" (219 : Nat) "java/util/HashMap$TreeNode" "prev" "Ljava/util/HashMap$TreeNode;") ∈ lw_all := lw_g (lw_at lw_m6 83 rfl) rfl
theorem q1332 : (Jvm.Cond.code ({ cls := "java/util/HashMap", name := "newTreeNode", desc := "(ILjava/lang/Object;Ljava/lang/Object;Ljava/util/HashMap$Node;)Ljava/util/HashMap$TreeNode;" } : Jvm.MethodName) prog_39_method_48_code (5 : Nat) (Option.some (Jvm.ClassFile.FieldType.object "java/util/HashMap$TreeNode"))) ∈ lw_all := lw_g (lw_at lw_m6 102 rfl) rfl
theorem q1333 : (Jvm.Cond.methodLink "java/util/HashMap" (378 : Nat) ({ cls := "java/util/HashMap$TreeNode", name := "<init>", desc := "(ILjava/lang/Object;Ljava/lang/Object;Ljava/util/HashMap$Node;)V" } : Jvm.MethodName)) ∈ lw_all := lw_g (lw_at lw_m6 103 rfl) rfl
theorem q1334 : (Jvm.Cond.methodLink "java/util/HashMap" (194 : Nat) ({ cls := "java/util/HashMap", name := "treeifyBin", desc := "([Ljava/util/HashMap$Node;I)V" } : Jvm.MethodName)) ∈ lw_all := lw_g (lw_at lw_m6 104 rfl) rfl
theorem q1335 : (Jvm.Cond.instanceMethod ({ cls := "java/util/HashMap", name := "treeifyBin", desc := "([Ljava/util/HashMap$Node;I)V" } : Jvm.MethodName)) ∈ lw_all := lw_g (lw_at lw_m6 105 rfl) rfl
theorem q1336 : (Jvm.Cond.selects "java/util/HashMap" ({ cls := "java/util/HashMap", name := "treeifyBin", desc := "([Ljava/util/HashMap$Node;I)V" } : Jvm.MethodName) ({ cls := "java/util/HashMap", name := "treeifyBin", desc := "([Ljava/util/HashMap$Node;I)V" } : Jvm.MethodName)) ∈ lw_all := lw_g (lw_at lw_m6 106 rfl) rfl
theorem q1337 : (Jvm.Cond.sameMethod "java/util/HashMap" "java/util/HashMap" "treeifyBin" "([Ljava/util/HashMap$Node;I)V") ∈ lw_all := lw_g (lw_at lw_m6 107 rfl) rfl
theorem q1339 : (Jvm.Cond.code ({ cls := "java/util/HashMap", name := "treeifyBin", desc := "([Ljava/util/HashMap$Node;I)V" } : Jvm.MethodName) prog_39_method_18_code (9 : Nat) (Option.none : Option Jvm.ClassFile.FieldType)) ∈ lw_all := lw_g (lw_at lw_m6 109 rfl) rfl
theorem q1340 : (Jvm.Cond.methodLink "java/util/HashMap" (215 : Nat) ({ cls := "java/util/HashMap", name := "replacementTreeNode", desc := "(Ljava/util/HashMap$Node;Ljava/util/HashMap$Node;)Ljava/util/HashMap$TreeNode;" } : Jvm.MethodName)) ∈ lw_all := lw_g (lw_at lw_m6 110 rfl) rfl
theorem q1341 : (Jvm.Cond.instanceMethod ({ cls := "java/util/HashMap", name := "replacementTreeNode", desc := "(Ljava/util/HashMap$Node;Ljava/util/HashMap$Node;)Ljava/util/HashMap$TreeNode;" } : Jvm.MethodName)) ∈ lw_all := lw_g (lw_at lw_m6 111 rfl) rfl
theorem q1342 : (Jvm.Cond.selects "java/util/HashMap" ({ cls := "java/util/HashMap", name := "replacementTreeNode", desc := "(Ljava/util/HashMap$Node;Ljava/util/HashMap$Node;)Ljava/util/HashMap$TreeNode;" } : Jvm.MethodName) ({ cls := "java/util/HashMap", name := "replacementTreeNode", desc := "(Ljava/util/HashMap$Node;Ljava/util/HashMap$Node;)Ljava/util/HashMap$TreeNode;" } : Jvm.MethodName)) ∈ lw_all := lw_g (lw_at lw_m6 112 rfl) rfl
theorem q1343 : (Jvm.Cond.sameMethod "java/util/HashMap" "java/util/HashMap" "replacementTreeNode" "(Ljava/util/HashMap$Node;Ljava/util/HashMap$Node;)Ljava/util/HashMap$TreeNode;") ∈ lw_all := lw_g (lw_at lw_m6 113 rfl) rfl
theorem q1347 : (Jvm.Cond.code ({ cls := "java/util/HashMap", name := "replacementTreeNode", desc := "(Ljava/util/HashMap$Node;Ljava/util/HashMap$Node;)Ljava/util/HashMap$TreeNode;" } : Jvm.MethodName) prog_39_method_49_code (3 : Nat) (Option.some (Jvm.ClassFile.FieldType.object "java/util/HashMap$TreeNode"))) ∈ lw_all := lw_g (lw_at lw_m6 117 rfl) rfl
theorem q1348 : (Jvm.Cond.methodLink "java/util/HashMap" (224 : Nat) ({ cls := "java/util/HashMap$TreeNode", name := "treeify", desc := "([Ljava/util/HashMap$Node;)V" } : Jvm.MethodName)) ∈ lw_all := lw_g (lw_at lw_m6 118 rfl) rfl
theorem q1349 : (Jvm.Cond.methodLink "java/util/HashMap" (198 : Nat) ({ cls := "java/util/HashMap", name := "afterNodeAccess", desc := "(Ljava/util/HashMap$Node;)V" } : Jvm.MethodName)) ∈ lw_all := lw_g (lw_at lw_m6 119 rfl) rfl
theorem q1350 : (Jvm.Cond.instanceMethod ({ cls := "java/util/HashMap", name := "afterNodeAccess", desc := "(Ljava/util/HashMap$Node;)V" } : Jvm.MethodName)) ∈ lw_all := lw_g (lw_at lw_m6 120 rfl) rfl
theorem q1351 : (Jvm.Cond.selects "java/util/HashMap" ({ cls := "java/util/HashMap", name := "afterNodeAccess", desc := "(Ljava/util/HashMap$Node;)V" } : Jvm.MethodName) ({ cls := "java/util/HashMap", name := "afterNodeAccess", desc := "(Ljava/util/HashMap$Node;)V" } : Jvm.MethodName)) ∈ lw_all := lw_g (lw_at lw_m6 121 rfl) rfl
theorem q1352 : (Jvm.Cond.sameMethod "java/util/HashMap" "java/util/HashMap" "afterNodeAccess" "(Ljava/util/HashMap$Node;)V") ∈ lw_all := lw_g (lw_at lw_m6 122 rfl) rfl
theorem q1356 : (Jvm.Cond.code ({ cls := "java/util/HashMap", name := "afterNodeAccess", desc := "(Ljava/util/HashMap$Node;)V" } : Jvm.MethodName) prog_39_method_51_code (2 : Nat) (Option.none : Option Jvm.ClassFile.FieldType)) ∈ lw_all := lw_g (lw_at lw_m6 126 rfl) rfl
theorem q1357 : (Jvm.Cond.methodLink "java/util/HashMap" (205 : Nat) ({ cls := "java/util/HashMap", name := "afterNodeInsertion", desc := "(Z)V" } : Jvm.MethodName)) ∈ lw_all := lw_g (lw_at lw_m6 127 rfl) rfl
theorem q1358 : (Jvm.Cond.instanceMethod ({ cls := "java/util/HashMap", name := "afterNodeInsertion", desc := "(Z)V" } : Jvm.MethodName)) ∈ lw_all := lw_g (lw_at lw_m6 128 rfl) rfl
theorem q1359 : (Jvm.Cond.selects "java/util/HashMap" ({ cls := "java/util/HashMap", name := "afterNodeInsertion", desc := "(Z)V" } : Jvm.MethodName) ({ cls := "java/util/HashMap", name := "afterNodeInsertion", desc := "(Z)V" } : Jvm.MethodName)) ∈ lw_all := lw_g (lw_at lw_m6 129 rfl) rfl
theorem q1360 : (Jvm.Cond.sameMethod "java/util/HashMap" "java/util/HashMap" "afterNodeInsertion" "(Z)V") ∈ lw_all := lw_g (lw_at lw_m6 130 rfl) rfl
theorem q1368 : (Jvm.Cond.code ({ cls := "java/util/HashMap", name := "afterNodeInsertion", desc := "(Z)V" } : Jvm.MethodName) prog_39_method_52_code (2 : Nat) (Option.none : Option Jvm.ClassFile.FieldType)) ∈ lw_all := lw_g (lw_at lw_m6 138 rfl) rfl
theorem q1471 : (Jvm.Cond.selects "java/util/HashMap" ({ cls := "java/util/Map", name := "get", desc := "(Ljava/lang/Object;)Ljava/lang/Object;" } : Jvm.MethodName) ({ cls := "java/util/HashMap", name := "get", desc := "(Ljava/lang/Object;)Ljava/lang/Object;" } : Jvm.MethodName)) ∈ lw_all := lw_g (lw_at lw_m7 1 rfl) rfl
theorem q1472 : (Jvm.Cond.unhidden "java/util/HashMap" "get" "(Ljava/lang/Object;)Ljava/lang/Object;") ∈ lw_tbl := lw_at lw_m7 2 rfl
theorem q1473 : (Jvm.Cond.instanceMethod ({ cls := "java/util/HashMap", name := "get", desc := "(Ljava/lang/Object;)Ljava/lang/Object;" } : Jvm.MethodName)) ∈ lw_all := lw_g (lw_at lw_m7 3 rfl) rfl
theorem q1474 : (Jvm.Cond.publicMethod ({ cls := "java/util/HashMap", name := "get", desc := "(Ljava/lang/Object;)Ljava/lang/Object;" } : Jvm.MethodName)) ∈ lw_tbl := lw_at lw_m7 4 rfl
theorem q1475 : (Jvm.Cond.code ({ cls := "java/util/HashMap", name := "get", desc := "(Ljava/lang/Object;)Ljava/lang/Object;" } : Jvm.MethodName) prog_39_method_12_code (3 : Nat) (Option.some (Jvm.ClassFile.FieldType.object "java/lang/Object"))) ∈ lw_all := lw_g (lw_at lw_m7 5 rfl) rfl
theorem q1476 : (Jvm.Cond.methodLink "java/util/HashMap" (158 : Nat) ({ cls := "java/util/HashMap", name := "getNode", desc := "(Ljava/lang/Object;)Ljava/util/HashMap$Node;" } : Jvm.MethodName)) ∈ lw_all := lw_g (lw_at lw_m7 6 rfl) rfl
theorem q1477 : (Jvm.Cond.instanceMethod ({ cls := "java/util/HashMap", name := "getNode", desc := "(Ljava/lang/Object;)Ljava/util/HashMap$Node;" } : Jvm.MethodName)) ∈ lw_all := lw_g (lw_at lw_m7 7 rfl) rfl
theorem q1478 : (Jvm.Cond.selects "java/util/HashMap" ({ cls := "java/util/HashMap", name := "getNode", desc := "(Ljava/lang/Object;)Ljava/util/HashMap$Node;" } : Jvm.MethodName) ({ cls := "java/util/HashMap", name := "getNode", desc := "(Ljava/lang/Object;)Ljava/util/HashMap$Node;" } : Jvm.MethodName)) ∈ lw_all := lw_g (lw_at lw_m7 8 rfl) rfl
theorem q1479 : (Jvm.Cond.sameMethod "java/util/HashMap" "java/util/HashMap" "getNode" "(Ljava/lang/Object;)Ljava/util/HashMap$Node;") ∈ lw_all := lw_g (lw_at lw_m7 9 rfl) rfl
theorem q1481 : (Jvm.Cond.code ({ cls := "java/util/HashMap", name := "getNode", desc := "(Ljava/lang/Object;)Ljava/util/HashMap$Node;" } : Jvm.MethodName) prog_39_method_13_code (8 : Nat) (Option.some (Jvm.ClassFile.FieldType.object "java/util/HashMap$Node"))) ∈ lw_all := lw_g (lw_at lw_m7 11 rfl) rfl
theorem q1482 : (Jvm.Cond.methodLink "java/util/HashMap" (182 : Nat) ({ cls := "java/util/HashMap$TreeNode", name := "getTreeNode", desc := "(ILjava/lang/Object;)Ljava/util/HashMap$TreeNode;" } : Jvm.MethodName)) ∈ lw_all := lw_g (lw_at lw_m7 12 rfl) rfl
theorem q1493 : (Jvm.Cond.declares ({ cls := "java/util/HashMap", name := "getNode", desc := "(Ljava/lang/Object;)Ljava/util/HashMap$Node;" } : Jvm.MethodName)) ∈ lw_tbl := lw_at lw_m7 23 rfl
theorem q1505 : (Jvm.Cond.selects "java/util/HashMap" ({ cls := "java/util/Map", name := "remove", desc := "(Ljava/lang/Object;)Ljava/lang/Object;" } : Jvm.MethodName) ({ cls := "java/util/HashMap", name := "remove", desc := "(Ljava/lang/Object;)Ljava/lang/Object;" } : Jvm.MethodName)) ∈ lw_all := lw_g (lw_at lw_m7 35 rfl) rfl
theorem q1506 : (Jvm.Cond.unhidden "java/util/HashMap" "remove" "(Ljava/lang/Object;)Ljava/lang/Object;") ∈ lw_tbl := lw_at lw_m7 36 rfl
theorem q1507 : (Jvm.Cond.instanceMethod ({ cls := "java/util/HashMap", name := "remove", desc := "(Ljava/lang/Object;)Ljava/lang/Object;" } : Jvm.MethodName)) ∈ lw_all := lw_g (lw_at lw_m7 37 rfl) rfl
theorem q1508 : (Jvm.Cond.publicMethod ({ cls := "java/util/HashMap", name := "remove", desc := "(Ljava/lang/Object;)Ljava/lang/Object;" } : Jvm.MethodName)) ∈ lw_tbl := lw_at lw_m7 38 rfl
theorem q1509 : (Jvm.Cond.code ({ cls := "java/util/HashMap", name := "remove", desc := "(Ljava/lang/Object;)Ljava/lang/Object;" } : Jvm.MethodName) prog_39_method_20_code (3 : Nat) (Option.some (Jvm.ClassFile.FieldType.object "java/lang/Object"))) ∈ lw_all := lw_g (lw_at lw_m7 39 rfl) rfl
theorem q1510 : (Jvm.Cond.methodLink "java/util/HashMap" (228 : Nat) ({ cls := "java/util/HashMap", name := "removeNode", desc := "(ILjava/lang/Object;Ljava/lang/Object;ZZ)Ljava/util/HashMap$Node;" } : Jvm.MethodName)) ∈ lw_all := lw_g (lw_at lw_m7 40 rfl) rfl
theorem q1511 : (Jvm.Cond.instanceMethod ({ cls := "java/util/HashMap", name := "removeNode", desc := "(ILjava/lang/Object;Ljava/lang/Object;ZZ)Ljava/util/HashMap$Node;" } : Jvm.MethodName)) ∈ lw_all := lw_g (lw_at lw_m7 41 rfl) rfl
theorem q1512 : (Jvm.Cond.selects "java/util/HashMap" ({ cls := "java/util/HashMap", name := "removeNode", desc := "(ILjava/lang/Object;Ljava/lang/Object;ZZ)Ljava/util/HashMap$Node;" } : Jvm.MethodName) ({ cls := "java/util/HashMap", name := "removeNode", desc := "(ILjava/lang/Object;Ljava/lang/Object;ZZ)Ljava/util/HashMap$Node;" } : Jvm.MethodName)) ∈ lw_all := lw_g (lw_at lw_m7 42 rfl) rfl
theorem q1513 : (Jvm.Cond.sameMethod "java/util/HashMap" "java/util/HashMap" "removeNode" "(ILjava/lang/Object;Ljava/lang/Object;ZZ)Ljava/util/HashMap$Node;") ∈ lw_all := lw_g (lw_at lw_m7 43 rfl) rfl
theorem q1515 : (Jvm.Cond.code ({ cls := "java/util/HashMap", name := "removeNode", desc := "(ILjava/lang/Object;Ljava/lang/Object;ZZ)Ljava/util/HashMap$Node;" } : Jvm.MethodName) prog_39_method_21_code (14 : Nat) (Option.some (Jvm.ClassFile.FieldType.object "java/util/HashMap$Node"))) ∈ lw_all := lw_g (lw_at lw_m7 45 rfl) rfl
theorem q1516 : (Jvm.Cond.methodLink "java/util/HashMap" (232 : Nat) ({ cls := "java/util/HashMap$TreeNode", name := "removeTreeNode", desc := "(Ljava/util/HashMap;[Ljava/util/HashMap$Node;Z)V" } : Jvm.MethodName)) ∈ lw_all := lw_g (lw_at lw_m7 46 rfl) rfl
theorem q1523 : (Jvm.Cond.methodLink "java/util/HashMap" (236 : Nat) ({ cls := "java/util/HashMap", name := "afterNodeRemoval", desc := "(Ljava/util/HashMap$Node;)V" } : Jvm.MethodName)) ∈ lw_all := lw_g (lw_at lw_m7 53 rfl) rfl
theorem q1524 : (Jvm.Cond.instanceMethod ({ cls := "java/util/HashMap", name := "afterNodeRemoval", desc := "(Ljava/util/HashMap$Node;)V" } : Jvm.MethodName)) ∈ lw_all := lw_g (lw_at lw_m7 54 rfl) rfl
theorem q1525 : (Jvm.Cond.selects "java/util/HashMap" ({ cls := "java/util/HashMap", name := "afterNodeRemoval", desc := "(Ljava/util/HashMap$Node;)V" } : Jvm.MethodName) ({ cls := "java/util/HashMap", name := "afterNodeRemoval", desc := "(Ljava/util/HashMap$Node;)V" } : Jvm.MethodName)) ∈ lw_all := lw_g (lw_at lw_m7 55 rfl) rfl
theorem q1526 : (Jvm.Cond.sameMethod "java/util/HashMap" "java/util/HashMap" "afterNodeRemoval" "(Ljava/util/HashMap$Node;)V") ∈ lw_all := lw_g (lw_at lw_m7 56 rfl) rfl
theorem q1530 : (Jvm.Cond.code ({ cls := "java/util/HashMap", name := "afterNodeRemoval", desc := "(Ljava/util/HashMap$Node;)V" } : Jvm.MethodName) prog_39_method_53_code (2 : Nat) (Option.none : Option Jvm.ClassFile.FieldType)) ∈ lw_all := lw_g (lw_at lw_m7 60 rfl) rfl
theorem q1653 : (Jvm.Cond.instantiable "java/util/HashMap" (8 : Nat)) ∈ lw_all := lw_g (lw_at lw_m7 183 rfl) rfl
theorem q1655 : (Jvm.Cond.lays "java/util/HashMap" "java/util/HashMap" "table" "[Ljava/util/HashMap$Node;") ∈ lw_all := lw_g (lw_at lw_m7 185 rfl) rfl
theorem q1656 : (Jvm.Cond.lays "java/util/HashMap" "java/util/HashMap" "entrySet" "Ljava/util/Set;") ∈ lw_all := lw_g (lw_at lw_m7 186 rfl) rfl
theorem q1657 : (Jvm.Cond.lays "java/util/HashMap" "java/util/HashMap" "size" "I") ∈ lw_all := lw_g (lw_at lw_m7 187 rfl) rfl
theorem q1658 : (Jvm.Cond.lays "java/util/HashMap" "java/util/HashMap" "modCount" "I") ∈ lw_all := lw_g (lw_at lw_m7 188 rfl) rfl
theorem q1659 : (Jvm.Cond.lays "java/util/HashMap" "java/util/HashMap" "threshold" "I") ∈ lw_all := lw_g (lw_at lw_m7 189 rfl) rfl
theorem q1660 : (Jvm.Cond.laysFinal "java/util/HashMap" "java/util/HashMap" "loadFactor" "F") ∈ lw_all := lw_g (lw_at lw_m7 190 rfl) rfl
theorem q1661 : (Jvm.Cond.lays "java/util/HashMap" "java/util/AbstractMap" "keySet" "Ljava/util/Set;") ∈ lw_all := lw_g (lw_at lw_m7 191 rfl) rfl
theorem q1662 : (Jvm.Cond.lays "java/util/HashMap" "java/util/AbstractMap" "values" "Ljava/util/Collection;") ∈ lw_all := lw_g (lw_at lw_m7 192 rfl) rfl
theorem q1663 : (Jvm.Cond.superclass "java/util/HashMap" "java/util/AbstractMap") ∈ lw_all := lw_g (lw_at lw_m7 193 rfl) rfl
theorem q1680 : (Jvm.Cond.instanceMethod ({ cls := "java/util/HashMap", name := "containsKey", desc := "(Ljava/lang/Object;)Z" } : Jvm.MethodName)) ∈ lw_all := lw_g (lw_at lw_m7 210 rfl) rfl
theorem q1681 : (Jvm.Cond.selects "java/util/HashMap" ({ cls := "java/util/HashMap", name := "containsKey", desc := "(Ljava/lang/Object;)Z" } : Jvm.MethodName) ({ cls := "java/util/HashMap", name := "containsKey", desc := "(Ljava/lang/Object;)Z" } : Jvm.MethodName)) ∈ lw_all := lw_g (lw_at lw_m7 211 rfl) rfl
theorem q1682 : (Jvm.Cond.sameMethod "java/util/HashMap" "java/util/HashMap" "containsKey" "(Ljava/lang/Object;)Z") ∈ lw_all := lw_g (lw_at lw_m7 212 rfl) rfl
theorem q1684 : (Jvm.Cond.code ({ cls := "java/util/HashMap", name := "containsKey", desc := "(Ljava/lang/Object;)Z" } : Jvm.MethodName) prog_39_method_14_code (2 : Nat) (Option.some Jvm.ClassFile.FieldType.boolean)) ∈ lw_all := lw_g (lw_at lw_m7 214 rfl) rfl
theorem q1981 : (Jvm.Cond.selects "java/util/HashMap" ({ cls := "java/util/Map", name := "keySet", desc := "()Ljava/util/Set;" } : Jvm.MethodName) ({ cls := "java/util/HashMap", name := "keySet", desc := "()Ljava/util/Set;" } : Jvm.MethodName)) ∈ lw_all := lw_g (lw_at lw_m9 31 rfl) rfl
theorem q1982 : (Jvm.Cond.unhidden "java/util/HashMap" "keySet" "()Ljava/util/Set;") ∈ lw_tbl := lw_at lw_m9 32 rfl
theorem q1983 : (Jvm.Cond.publicMethod ({ cls := "java/util/HashMap", name := "keySet", desc := "()Ljava/util/Set;" } : Jvm.MethodName)) ∈ lw_tbl := lw_at lw_m9 33 rfl
theorem q2115 : (Jvm.Cond.selects "java/util/HashMap" ({ cls := "java/util/Map", name := "containsKey", desc := "(Ljava/lang/Object;)Z" } : Jvm.MethodName) ({ cls := "java/util/HashMap", name := "containsKey", desc := "(Ljava/lang/Object;)Z" } : Jvm.MethodName)) ∈ lw_all := lw_g (lw_at lw_m9 165 rfl) rfl
theorem q2116 : (Jvm.Cond.unhidden "java/util/HashMap" "containsKey" "(Ljava/lang/Object;)Z") ∈ lw_tbl := lw_at lw_m9 166 rfl
theorem q2117 : (Jvm.Cond.publicMethod ({ cls := "java/util/HashMap", name := "containsKey", desc := "(Ljava/lang/Object;)Z" } : Jvm.MethodName)) ∈ lw_tbl := lw_at lw_m9 167 rfl
theorem q2398 : (Jvm.Cond.sameMethod "java/util/HashMap" "java/util/HashMap" "put" "(Ljava/lang/Object;Ljava/lang/Object;)Ljava/lang/Object;") ∈ lw_all := lw_g (lw_at lw_m10 208 rfl) rfl
theorem q2399 : (Jvm.Cond.selects "java/util/HashMap" ({ cls := "java/util/HashMap", name := "put", desc := "(Ljava/lang/Object;Ljava/lang/Object;)Ljava/lang/Object;" } : Jvm.MethodName) ({ cls := "java/util/HashMap", name := "put", desc := "(Ljava/lang/Object;Ljava/lang/Object;)Ljava/lang/Object;" } : Jvm.MethodName)) ∈ lw_all := lw_g (lw_at lw_m10 209 rfl) rfl
theorem q2428 : (Jvm.Cond.castable "java/util/HashMap" "java/lang/Object") ∈ lw_tbl := lw_at lw_m10 238 rfl
theorem in_J4 : ∀ w ∈ wsJ40, w ∈ lw_all := lw_in wsJ40 [1661, 1662, 1655, 1656, 1657, 1658, 1659, 1660] (by decide +kernel) (by decide +kernel)
/-! java/util/LinkedHashMap -/
set_option maxRecDepth 100000
def RJ5 : String := "java/util/LinkedHashMap"
def TJ5 : u_T := fun k => match k with
  | 0 => ("java/util/AbstractMap", "keySet", "Ljava/util/Set;", false)
  | 1 => ("java/util/AbstractMap", "values", "Ljava/util/Collection;", false)
  | 2 => ("java/util/HashMap", "table", "[Ljava/util/HashMap$Node;", false)
  | 3 => ("java/util/HashMap", "entrySet", "Ljava/util/Set;", false)
  | 4 => ("java/util/HashMap", "size", "I", false)
  | 5 => ("java/util/HashMap", "modCount", "I", false)
  | 6 => ("java/util/HashMap", "threshold", "I", false)
  | 7 => ("java/util/HashMap", "loadFactor", "F", true)
  | 8 => ("java/util/LinkedHashMap", "head", "Ljava/util/LinkedHashMap$Entry;", false)
  | 9 => ("java/util/LinkedHashMap", "tail", "Ljava/util/LinkedHashMap$Entry;", false)
  | 10 => ("java/util/LinkedHashMap", "accessOrder", "Z", true)
  | _ => ("java/util/LinkedHashMap", "putMode", "I", false)
def tyJ5 : Nat → FieldType := fun k => match k with
  | 0 => .object "java/util/Set"
  | 1 => .object "java/util/Collection"
  | 2 => .array (.object "java/util/HashMap$Node")
  | 3 => .object "java/util/Set"
  | 4 => .int
  | 5 => .int
  | 6 => .int
  | 7 => .float
  | 8 => .object "java/util/LinkedHashMap$Entry"
  | 9 => .object "java/util/LinkedHashMap$Entry"
  | 10 => .boolean
  | _ => .int
abbrev wsJ50 : List Cond := u_ws RJ5 TJ5 12
theorem nmJ5 : ∀ a, a < 12 → ∀ b, b < 12 → a ≠ b → (TJ5 a).2.1 ≠ (TJ5 b).2.1 := by decide +kernel
theorem tyJ5_ok : ∀ k, k < 12 → parseFieldDescriptor (TJ5 k).2.2.1 = some (tyJ5 k) := by decide +kernel
abbrev cJ5_init : ByteArray := prog_49_method_16_code
def yJ5_init : MethodName := ⟨RJ5, "<init>", "()V"⟩
def dkwJ5_init_0 : List UInt8 := [42, 183, 0, 87, 42, 3, 181, 0, 1, 42, 3, 181, 0, 64, 177]
abbrev dktJ5_init_0 : List UInt8 := dkwJ5_init_0 ++ []
theorem dksJ5_init_0 : cJ5_init.data.toList.drop 0 = dktJ5_init_0 := by decide +kernel
theorem dJ5_init_0 : decode cJ5_init 0 = .ok (.aload_n 0, 1) := dk_42 (dk_at dksJ5_init_0 0 rfl rfl)
theorem dJ5_init_1 : decode cJ5_init 1 = .ok (.invokespecial 87, 3) := dk_183 0 87 (dk_at dksJ5_init_0 1 rfl rfl)
theorem dJ5_init_4 : decode cJ5_init 4 = .ok (.aload_n 0, 1) := dk_42 (dk_at dksJ5_init_0 4 rfl rfl)
theorem dJ5_init_5 : decode cJ5_init 5 = .ok (.iconst 0, 1) := dk_3 (dk_at dksJ5_init_0 5 rfl rfl)
theorem dJ5_init_6 : decode cJ5_init 6 = .ok (.putfield 1, 3) := dk_181 0 1 (dk_at dksJ5_init_0 6 rfl rfl)
theorem dJ5_init_9 : decode cJ5_init 9 = .ok (.aload_n 0, 1) := dk_42 (dk_at dksJ5_init_0 9 rfl rfl)
theorem dJ5_init_10 : decode cJ5_init 10 = .ok (.iconst 0, 1) := dk_3 (dk_at dksJ5_init_0 10 rfl rfl)
theorem dJ5_init_11 : decode cJ5_init 11 = .ok (.putfield 64, 3) := dk_181 0 64 (dk_at dksJ5_init_0 11 rfl rfl)
theorem dJ5_init_14 : decode cJ5_init 14 = .ok (.return_, 1) := dk_177 (dk_at dksJ5_init_0 14 rfl rfl)
abbrev cJ5_entrySet : ByteArray := prog_49_method_32_code
def yJ5_entrySet : MethodName := ⟨RJ5, "entrySet", "()Ljava/util/Set;"⟩
theorem dJ5_entrySet_0 : decode cJ5_entrySet 0 = .ok (.aload_n 0, 1) := by decide +kernel
theorem dJ5_entrySet_1 : decode cJ5_entrySet 1 = .ok (.invokevirtual 148, 3) := by decide +kernel
theorem dJ5_entrySet_4 : decode cJ5_entrySet 4 = .ok (.areturn, 1) := by decide +kernel
abbrev cJ5_sequencedEntrySet : ByteArray := prog_49_method_33_code
def yJ5_sequencedEntrySet : MethodName := ⟨RJ5, "sequencedEntrySet", "()Ljava/util/SequencedSet;"⟩
def dkwJ5_sequencedEntrySet_1 : List UInt8 := [44, 176, 43, 192, 0, 126, 176]
abbrev dktJ5_sequencedEntrySet_1 : List UInt8 := dkwJ5_sequencedEntrySet_1 ++ []
def dkwJ5_sequencedEntrySet_0 : List UInt8 := [42, 180, 0, 151, 76, 43, 199, 0, 20, 187, 0, 154, 89, 42, 3, 183, 0, 156, 77, 42, 44, 181, 0, 151]
abbrev dktJ5_sequencedEntrySet_0 : List UInt8 := dkwJ5_sequencedEntrySet_0 ++ dktJ5_sequencedEntrySet_1
theorem dksJ5_sequencedEntrySet_0 : cJ5_sequencedEntrySet.data.toList.drop 0 = dktJ5_sequencedEntrySet_0 := by decide +kernel
theorem dksJ5_sequencedEntrySet_1 : cJ5_sequencedEntrySet.data.toList.drop 24 = dktJ5_sequencedEntrySet_1 := dk_seg dksJ5_sequencedEntrySet_0 24 rfl rfl
theorem dJ5_sequencedEntrySet_0 : decode cJ5_sequencedEntrySet 0 = .ok (.aload_n 0, 1) := dk_42 (dk_at dksJ5_sequencedEntrySet_0 0 rfl rfl)
theorem dJ5_sequencedEntrySet_1 : decode cJ5_sequencedEntrySet 1 = .ok (.getfield 151, 3) := dk_180 0 151 (dk_at dksJ5_sequencedEntrySet_0 1 rfl rfl)
theorem dJ5_sequencedEntrySet_4 : decode cJ5_sequencedEntrySet 4 = .ok (.astore_n 1, 1) := dk_76 (dk_at dksJ5_sequencedEntrySet_0 4 rfl rfl)
theorem dJ5_sequencedEntrySet_5 : decode cJ5_sequencedEntrySet 5 = .ok (.aload_n 1, 1) := dk_43 (dk_at dksJ5_sequencedEntrySet_0 5 rfl rfl)
theorem dJ5_sequencedEntrySet_6 : decode cJ5_sequencedEntrySet 6 = .ok (.ifnonnull 20, 3) := dk_199 0 20 (dk_at dksJ5_sequencedEntrySet_0 6 rfl rfl)
theorem dJ5_sequencedEntrySet_9 : decode cJ5_sequencedEntrySet 9 = .ok (.new 154, 3) := dk_187 0 154 (dk_at dksJ5_sequencedEntrySet_0 9 rfl rfl)
theorem dJ5_sequencedEntrySet_12 : decode cJ5_sequencedEntrySet 12 = .ok (.dup, 1) := dk_89 (dk_at dksJ5_sequencedEntrySet_0 12 rfl rfl)
theorem dJ5_sequencedEntrySet_13 : decode cJ5_sequencedEntrySet 13 = .ok (.aload_n 0, 1) := dk_42 (dk_at dksJ5_sequencedEntrySet_0 13 rfl rfl)
theorem dJ5_sequencedEntrySet_14 : decode cJ5_sequencedEntrySet 14 = .ok (.iconst 0, 1) := dk_3 (dk_at dksJ5_sequencedEntrySet_0 14 rfl rfl)
theorem dJ5_sequencedEntrySet_15 : decode cJ5_sequencedEntrySet 15 = .ok (.invokespecial 156, 3) := dk_183 0 156 (dk_at dksJ5_sequencedEntrySet_0 15 rfl rfl)
theorem dJ5_sequencedEntrySet_18 : decode cJ5_sequencedEntrySet 18 = .ok (.astore_n 2, 1) := dk_77 (dk_at dksJ5_sequencedEntrySet_0 18 rfl rfl)
theorem dJ5_sequencedEntrySet_19 : decode cJ5_sequencedEntrySet 19 = .ok (.aload_n 0, 1) := dk_42 (dk_at dksJ5_sequencedEntrySet_0 19 rfl rfl)
theorem dJ5_sequencedEntrySet_20 : decode cJ5_sequencedEntrySet 20 = .ok (.aload_n 2, 1) := dk_44 (dk_at dksJ5_sequencedEntrySet_0 20 rfl rfl)
theorem dJ5_sequencedEntrySet_21 : decode cJ5_sequencedEntrySet 21 = .ok (.putfield 151, 3) := dk_181 0 151 (dk_at dksJ5_sequencedEntrySet_0 21 rfl rfl)
theorem dJ5_sequencedEntrySet_24 : decode cJ5_sequencedEntrySet 24 = .ok (.aload_n 2, 1) := dk_44 (dk_at dksJ5_sequencedEntrySet_1 0 rfl rfl)
theorem dJ5_sequencedEntrySet_25 : decode cJ5_sequencedEntrySet 25 = .ok (.areturn, 1) := dk_176 (dk_at dksJ5_sequencedEntrySet_1 1 rfl rfl)
theorem dJ5_sequencedEntrySet_26 : decode cJ5_sequencedEntrySet 26 = .ok (.aload_n 1, 1) := dk_43 (dk_at dksJ5_sequencedEntrySet_1 2 rfl rfl)
theorem dJ5_sequencedEntrySet_27 : decode cJ5_sequencedEntrySet 27 = .ok (.checkcast 126, 3) := dk_192 0 126 (dk_at dksJ5_sequencedEntrySet_1 3 rfl rfl)
theorem dJ5_sequencedEntrySet_30 : decode cJ5_sequencedEntrySet 30 = .ok (.areturn, 1) := dk_176 (dk_at dksJ5_sequencedEntrySet_1 6 rfl rfl)
abbrev cJ5_keySet : ByteArray := prog_49_method_24_code
def yJ5_keySet : MethodName := ⟨RJ5, "keySet", "()Ljava/util/Set;"⟩
theorem dJ5_keySet_0 : decode cJ5_keySet 0 = .ok (.aload_n 0, 1) := by decide +kernel
theorem dJ5_keySet_1 : decode cJ5_keySet 1 = .ok (.invokevirtual 113, 3) := by decide +kernel
theorem dJ5_keySet_4 : decode cJ5_keySet 4 = .ok (.areturn, 1) := by decide +kernel
abbrev cJ5_sequencedKeySet : ByteArray := prog_49_method_25_code
def yJ5_sequencedKeySet : MethodName := ⟨RJ5, "sequencedKeySet", "()Ljava/util/SequencedSet;"⟩
def dkwJ5_sequencedKeySet_1 : List UInt8 := [44, 176, 43, 192, 0, 126, 176]
abbrev dktJ5_sequencedKeySet_1 : List UInt8 := dkwJ5_sequencedKeySet_1 ++ []
def dkwJ5_sequencedKeySet_0 : List UInt8 := [42, 180, 0, 117, 76, 43, 199, 0, 20, 187, 0, 121, 89, 42, 3, 183, 0, 123, 77, 42, 44, 181, 0, 117]
abbrev dktJ5_sequencedKeySet_0 : List UInt8 := dkwJ5_sequencedKeySet_0 ++ dktJ5_sequencedKeySet_1
theorem dksJ5_sequencedKeySet_0 : cJ5_sequencedKeySet.data.toList.drop 0 = dktJ5_sequencedKeySet_0 := by decide +kernel
theorem dksJ5_sequencedKeySet_1 : cJ5_sequencedKeySet.data.toList.drop 24 = dktJ5_sequencedKeySet_1 := dk_seg dksJ5_sequencedKeySet_0 24 rfl rfl
theorem dJ5_sequencedKeySet_0 : decode cJ5_sequencedKeySet 0 = .ok (.aload_n 0, 1) := dk_42 (dk_at dksJ5_sequencedKeySet_0 0 rfl rfl)
theorem dJ5_sequencedKeySet_1 : decode cJ5_sequencedKeySet 1 = .ok (.getfield 117, 3) := dk_180 0 117 (dk_at dksJ5_sequencedKeySet_0 1 rfl rfl)
theorem dJ5_sequencedKeySet_4 : decode cJ5_sequencedKeySet 4 = .ok (.astore_n 1, 1) := dk_76 (dk_at dksJ5_sequencedKeySet_0 4 rfl rfl)
theorem dJ5_sequencedKeySet_5 : decode cJ5_sequencedKeySet 5 = .ok (.aload_n 1, 1) := dk_43 (dk_at dksJ5_sequencedKeySet_0 5 rfl rfl)
theorem dJ5_sequencedKeySet_6 : decode cJ5_sequencedKeySet 6 = .ok (.ifnonnull 20, 3) := dk_199 0 20 (dk_at dksJ5_sequencedKeySet_0 6 rfl rfl)
theorem dJ5_sequencedKeySet_9 : decode cJ5_sequencedKeySet 9 = .ok (.new 121, 3) := dk_187 0 121 (dk_at dksJ5_sequencedKeySet_0 9 rfl rfl)
theorem dJ5_sequencedKeySet_12 : decode cJ5_sequencedKeySet 12 = .ok (.dup, 1) := dk_89 (dk_at dksJ5_sequencedKeySet_0 12 rfl rfl)
theorem dJ5_sequencedKeySet_13 : decode cJ5_sequencedKeySet 13 = .ok (.aload_n 0, 1) := dk_42 (dk_at dksJ5_sequencedKeySet_0 13 rfl rfl)
theorem dJ5_sequencedKeySet_14 : decode cJ5_sequencedKeySet 14 = .ok (.iconst 0, 1) := dk_3 (dk_at dksJ5_sequencedKeySet_0 14 rfl rfl)
theorem dJ5_sequencedKeySet_15 : decode cJ5_sequencedKeySet 15 = .ok (.invokespecial 123, 3) := dk_183 0 123 (dk_at dksJ5_sequencedKeySet_0 15 rfl rfl)
theorem dJ5_sequencedKeySet_18 : decode cJ5_sequencedKeySet 18 = .ok (.astore_n 2, 1) := dk_77 (dk_at dksJ5_sequencedKeySet_0 18 rfl rfl)
theorem dJ5_sequencedKeySet_19 : decode cJ5_sequencedKeySet 19 = .ok (.aload_n 0, 1) := dk_42 (dk_at dksJ5_sequencedKeySet_0 19 rfl rfl)
theorem dJ5_sequencedKeySet_20 : decode cJ5_sequencedKeySet 20 = .ok (.aload_n 2, 1) := dk_44 (dk_at dksJ5_sequencedKeySet_0 20 rfl rfl)
theorem dJ5_sequencedKeySet_21 : decode cJ5_sequencedKeySet 21 = .ok (.putfield 117, 3) := dk_181 0 117 (dk_at dksJ5_sequencedKeySet_0 21 rfl rfl)
theorem dJ5_sequencedKeySet_24 : decode cJ5_sequencedKeySet 24 = .ok (.aload_n 2, 1) := dk_44 (dk_at dksJ5_sequencedKeySet_1 0 rfl rfl)
theorem dJ5_sequencedKeySet_25 : decode cJ5_sequencedKeySet 25 = .ok (.areturn, 1) := dk_176 (dk_at dksJ5_sequencedKeySet_1 1 rfl rfl)
theorem dJ5_sequencedKeySet_26 : decode cJ5_sequencedKeySet 26 = .ok (.aload_n 1, 1) := dk_43 (dk_at dksJ5_sequencedKeySet_1 2 rfl rfl)
theorem dJ5_sequencedKeySet_27 : decode cJ5_sequencedKeySet 27 = .ok (.checkcast 126, 3) := dk_192 0 126 (dk_at dksJ5_sequencedKeySet_1 3 rfl rfl)
theorem dJ5_sequencedKeySet_30 : decode cJ5_sequencedKeySet 30 = .ok (.areturn, 1) := dk_176 (dk_at dksJ5_sequencedKeySet_1 6 rfl rfl)
abbrev cJ5_replacementNode : ByteArray := prog_49_method_5_code
def yJ5_replacementNode : MethodName := ⟨RJ5, "replacementNode", "(Ljava/util/HashMap$Node;Ljava/util/HashMap$Node;)Ljava/util/HashMap$Node;"⟩
def dkwJ5_replacementNode_1 : List UInt8 := [183, 0, 28, 58, 4, 42, 45, 25, 4, 182, 0, 46, 25, 4, 176]
abbrev dktJ5_replacementNode_1 : List UInt8 := dkwJ5_replacementNode_1 ++ []
def dkwJ5_replacementNode_0 : List UInt8 := [43, 192, 0, 15, 78, 187, 0, 15, 89, 45, 180, 0, 36, 45, 180, 0, 39, 45, 180, 0, 43, 44]
abbrev dktJ5_replacementNode_0 : List UInt8 := dkwJ5_replacementNode_0 ++ dktJ5_replacementNode_1
theorem dksJ5_replacementNode_0 : cJ5_replacementNode.data.toList.drop 0 = dktJ5_replacementNode_0 := by decide +kernel
theorem dksJ5_replacementNode_1 : cJ5_replacementNode.data.toList.drop 22 = dktJ5_replacementNode_1 := dk_seg dksJ5_replacementNode_0 22 rfl rfl
theorem dJ5_replacementNode_0 : decode cJ5_replacementNode 0 = .ok (.aload_n 1, 1) := dk_43 (dk_at dksJ5_replacementNode_0 0 rfl rfl)
theorem dJ5_replacementNode_1 : decode cJ5_replacementNode 1 = .ok (.checkcast 15, 3) := dk_192 0 15 (dk_at dksJ5_replacementNode_0 1 rfl rfl)
theorem dJ5_replacementNode_4 : decode cJ5_replacementNode 4 = .ok (.astore_n 3, 1) := dk_78 (dk_at dksJ5_replacementNode_0 4 rfl rfl)
theorem dJ5_replacementNode_5 : decode cJ5_replacementNode 5 = .ok (.new 15, 3) := dk_187 0 15 (dk_at dksJ5_replacementNode_0 5 rfl rfl)
theorem dJ5_replacementNode_8 : decode cJ5_replacementNode 8 = .ok (.dup, 1) := dk_89 (dk_at dksJ5_replacementNode_0 8 rfl rfl)
theorem dJ5_replacementNode_9 : decode cJ5_replacementNode 9 = .ok (.aload_n 3, 1) := dk_45 (dk_at dksJ5_replacementNode_0 9 rfl rfl)
theorem dJ5_replacementNode_10 : decode cJ5_replacementNode 10 = .ok (.getfield 36, 3) := dk_180 0 36 (dk_at dksJ5_replacementNode_0 10 rfl rfl)
theorem dJ5_replacementNode_13 : decode cJ5_replacementNode 13 = .ok (.aload_n 3, 1) := dk_45 (dk_at dksJ5_replacementNode_0 13 rfl rfl)
theorem dJ5_replacementNode_14 : decode cJ5_replacementNode 14 = .ok (.getfield 39, 3) := dk_180 0 39 (dk_at dksJ5_replacementNode_0 14 rfl rfl)
theorem dJ5_replacementNode_17 : decode cJ5_replacementNode 17 = .ok (.aload_n 3, 1) := dk_45 (dk_at dksJ5_replacementNode_0 17 rfl rfl)
theorem dJ5_replacementNode_18 : decode cJ5_replacementNode 18 = .ok (.getfield 43, 3) := dk_180 0 43 (dk_at dksJ5_replacementNode_0 18 rfl rfl)
theorem dJ5_replacementNode_21 : decode cJ5_replacementNode 21 = .ok (.aload_n 2, 1) := dk_44 (dk_at dksJ5_replacementNode_0 21 rfl rfl)
theorem dJ5_replacementNode_22 : decode cJ5_replacementNode 22 = .ok (.invokespecial 28, 3) := dk_183 0 28 (dk_at dksJ5_replacementNode_1 0 rfl rfl)
theorem dJ5_replacementNode_25 : decode cJ5_replacementNode 25 = .ok (.astore 4, 2) := dk_58 4 (dk_at dksJ5_replacementNode_1 3 rfl rfl)
theorem dJ5_replacementNode_27 : decode cJ5_replacementNode 27 = .ok (.aload_n 0, 1) := dk_42 (dk_at dksJ5_replacementNode_1 5 rfl rfl)
theorem dJ5_replacementNode_28 : decode cJ5_replacementNode 28 = .ok (.aload_n 3, 1) := dk_45 (dk_at dksJ5_replacementNode_1 6 rfl rfl)
theorem dJ5_replacementNode_29 : decode cJ5_replacementNode 29 = .ok (.aload 4, 2) := dk_25 4 (dk_at dksJ5_replacementNode_1 7 rfl rfl)
theorem dJ5_replacementNode_31 : decode cJ5_replacementNode 31 = .ok (.invokevirtual 46, 3) := dk_182 0 46 (dk_at dksJ5_replacementNode_1 9 rfl rfl)
theorem dJ5_replacementNode_34 : decode cJ5_replacementNode 34 = .ok (.aload 4, 2) := dk_25 4 (dk_at dksJ5_replacementNode_1 12 rfl rfl)
theorem dJ5_replacementNode_36 : decode cJ5_replacementNode 36 = .ok (.areturn, 1) := dk_176 (dk_at dksJ5_replacementNode_1 14 rfl rfl)
abbrev cJ5_transferLinks : ByteArray := prog_49_method_2_code
def yJ5_transferLinks : MethodName := ⟨RJ5, "transferLinks", "(Ljava/util/LinkedHashMap$Entry;Ljava/util/LinkedHashMap$Entry;)V"⟩
def dkwJ5_transferLinks_2 : List UInt8 := [181, 0, 11, 167, 0, 9, 25, 4, 44, 181, 0, 19, 177]
abbrev dktJ5_transferLinks_2 : List UInt8 := dkwJ5_transferLinks_2 ++ []
def dkwJ5_transferLinks_1 : List UInt8 := [199, 0, 11, 42, 44, 181, 0, 7, 167, 0, 8, 45, 44, 181, 0, 14, 25, 4, 199, 0, 11, 42, 44]
abbrev dktJ5_transferLinks_1 : List UInt8 := dkwJ5_transferLinks_1 ++ dktJ5_transferLinks_2
def dkwJ5_transferLinks_0 : List UInt8 := [44, 43, 180, 0, 19, 90, 181, 0, 19, 78, 44, 43, 180, 0, 14, 90, 181, 0, 14, 58, 4, 45]
abbrev dktJ5_transferLinks_0 : List UInt8 := dkwJ5_transferLinks_0 ++ dktJ5_transferLinks_1
theorem dksJ5_transferLinks_0 : cJ5_transferLinks.data.toList.drop 0 = dktJ5_transferLinks_0 := by decide +kernel
theorem dksJ5_transferLinks_1 : cJ5_transferLinks.data.toList.drop 22 = dktJ5_transferLinks_1 := dk_seg dksJ5_transferLinks_0 22 rfl rfl
theorem dksJ5_transferLinks_2 : cJ5_transferLinks.data.toList.drop 45 = dktJ5_transferLinks_2 := dk_seg dksJ5_transferLinks_1 23 rfl rfl
theorem dJ5_transferLinks_0 : decode cJ5_transferLinks 0 = .ok (.aload_n 2, 1) := dk_44 (dk_at dksJ5_transferLinks_0 0 rfl rfl)
theorem dJ5_transferLinks_1 : decode cJ5_transferLinks 1 = .ok (.aload_n 1, 1) := dk_43 (dk_at dksJ5_transferLinks_0 1 rfl rfl)
theorem dJ5_transferLinks_2 : decode cJ5_transferLinks 2 = .ok (.getfield 19, 3) := dk_180 0 19 (dk_at dksJ5_transferLinks_0 2 rfl rfl)
theorem dJ5_transferLinks_5 : decode cJ5_transferLinks 5 = .ok (.dup_x1, 1) := dk_90 (dk_at dksJ5_transferLinks_0 5 rfl rfl)
theorem dJ5_transferLinks_6 : decode cJ5_transferLinks 6 = .ok (.putfield 19, 3) := dk_181 0 19 (dk_at dksJ5_transferLinks_0 6 rfl rfl)
theorem dJ5_transferLinks_9 : decode cJ5_transferLinks 9 = .ok (.astore_n 3, 1) := dk_78 (dk_at dksJ5_transferLinks_0 9 rfl rfl)
theorem dJ5_transferLinks_10 : decode cJ5_transferLinks 10 = .ok (.aload_n 2, 1) := dk_44 (dk_at dksJ5_transferLinks_0 10 rfl rfl)
theorem dJ5_transferLinks_11 : decode cJ5_transferLinks 11 = .ok (.aload_n 1, 1) := dk_43 (dk_at dksJ5_transferLinks_0 11 rfl rfl)
theorem dJ5_transferLinks_12 : decode cJ5_transferLinks 12 = .ok (.getfield 14, 3) := dk_180 0 14 (dk_at dksJ5_transferLinks_0 12 rfl rfl)
theorem dJ5_transferLinks_15 : decode cJ5_transferLinks 15 = .ok (.dup_x1, 1) := dk_90 (dk_at dksJ5_transferLinks_0 15 rfl rfl)
theorem dJ5_transferLinks_16 : decode cJ5_transferLinks 16 = .ok (.putfield 14, 3) := dk_181 0 14 (dk_at dksJ5_transferLinks_0 16 rfl rfl)
theorem dJ5_transferLinks_19 : decode cJ5_transferLinks 19 = .ok (.astore 4, 2) := dk_58 4 (dk_at dksJ5_transferLinks_0 19 rfl rfl)
theorem dJ5_transferLinks_21 : decode cJ5_transferLinks 21 = .ok (.aload_n 3, 1) := dk_45 (dk_at dksJ5_transferLinks_0 21 rfl rfl)
theorem dJ5_transferLinks_22 : decode cJ5_transferLinks 22 = .ok (.ifnonnull 11, 3) := dk_199 0 11 (dk_at dksJ5_transferLinks_1 0 rfl rfl)
theorem dJ5_transferLinks_25 : decode cJ5_transferLinks 25 = .ok (.aload_n 0, 1) := dk_42 (dk_at dksJ5_transferLinks_1 3 rfl rfl)
theorem dJ5_transferLinks_26 : decode cJ5_transferLinks 26 = .ok (.aload_n 2, 1) := dk_44 (dk_at dksJ5_transferLinks_1 4 rfl rfl)
theorem dJ5_transferLinks_27 : decode cJ5_transferLinks 27 = .ok (.putfield 7, 3) := dk_181 0 7 (dk_at dksJ5_transferLinks_1 5 rfl rfl)
theorem dJ5_transferLinks_30 : decode cJ5_transferLinks 30 = .ok (.goto 8, 3) := dk_167 0 8 (dk_at dksJ5_transferLinks_1 8 rfl rfl)
theorem dJ5_transferLinks_33 : decode cJ5_transferLinks 33 = .ok (.aload_n 3, 1) := dk_45 (dk_at dksJ5_transferLinks_1 11 rfl rfl)
theorem dJ5_transferLinks_34 : decode cJ5_transferLinks 34 = .ok (.aload_n 2, 1) := dk_44 (dk_at dksJ5_transferLinks_1 12 rfl rfl)
theorem dJ5_transferLinks_35 : decode cJ5_transferLinks 35 = .ok (.putfield 14, 3) := dk_181 0 14 (dk_at dksJ5_transferLinks_1 13 rfl rfl)
theorem dJ5_transferLinks_38 : decode cJ5_transferLinks 38 = .ok (.aload 4, 2) := dk_25 4 (dk_at dksJ5_transferLinks_1 16 rfl rfl)
theorem dJ5_transferLinks_40 : decode cJ5_transferLinks 40 = .ok (.ifnonnull 11, 3) := dk_199 0 11 (dk_at dksJ5_transferLinks_1 18 rfl rfl)
theorem dJ5_transferLinks_43 : decode cJ5_transferLinks 43 = .ok (.aload_n 0, 1) := dk_42 (dk_at dksJ5_transferLinks_1 21 rfl rfl)
theorem dJ5_transferLinks_44 : decode cJ5_transferLinks 44 = .ok (.aload_n 2, 1) := dk_44 (dk_at dksJ5_transferLinks_1 22 rfl rfl)
theorem dJ5_transferLinks_45 : decode cJ5_transferLinks 45 = .ok (.putfield 11, 3) := dk_181 0 11 (dk_at dksJ5_transferLinks_2 0 rfl rfl)
theorem dJ5_transferLinks_48 : decode cJ5_transferLinks 48 = .ok (.goto 9, 3) := dk_167 0 9 (dk_at dksJ5_transferLinks_2 3 rfl rfl)
theorem dJ5_transferLinks_51 : decode cJ5_transferLinks 51 = .ok (.aload 4, 2) := dk_25 4 (dk_at dksJ5_transferLinks_2 6 rfl rfl)
theorem dJ5_transferLinks_53 : decode cJ5_transferLinks 53 = .ok (.aload_n 2, 1) := dk_44 (dk_at dksJ5_transferLinks_2 8 rfl rfl)
theorem dJ5_transferLinks_54 : decode cJ5_transferLinks 54 = .ok (.putfield 19, 3) := dk_181 0 19 (dk_at dksJ5_transferLinks_2 9 rfl rfl)
theorem dJ5_transferLinks_57 : decode cJ5_transferLinks 57 = .ok (.return_, 1) := dk_177 (dk_at dksJ5_transferLinks_2 12 rfl rfl)
abbrev cJ5_newNode : ByteArray := prog_49_method_4_code
def yJ5_newNode : MethodName := ⟨RJ5, "newNode", "(ILjava/lang/Object;Ljava/lang/Object;Ljava/util/HashMap$Node;)Ljava/util/HashMap$Node;"⟩
def dkwJ5_newNode_0 : List UInt8 := [187, 0, 15, 89, 27, 44, 45, 25, 4, 183, 0, 28, 58, 5, 42, 25, 5, 182, 0, 32, 25, 5, 176]
abbrev dktJ5_newNode_0 : List UInt8 := dkwJ5_newNode_0 ++ []
theorem dksJ5_newNode_0 : cJ5_newNode.data.toList.drop 0 = dktJ5_newNode_0 := by decide +kernel
theorem dJ5_newNode_0 : decode cJ5_newNode 0 = .ok (.new 15, 3) := dk_187 0 15 (dk_at dksJ5_newNode_0 0 rfl rfl)
theorem dJ5_newNode_3 : decode cJ5_newNode 3 = .ok (.dup, 1) := dk_89 (dk_at dksJ5_newNode_0 3 rfl rfl)
theorem dJ5_newNode_4 : decode cJ5_newNode 4 = .ok (.iload_n 1, 1) := dk_27 (dk_at dksJ5_newNode_0 4 rfl rfl)
theorem dJ5_newNode_5 : decode cJ5_newNode 5 = .ok (.aload_n 2, 1) := dk_44 (dk_at dksJ5_newNode_0 5 rfl rfl)
theorem dJ5_newNode_6 : decode cJ5_newNode 6 = .ok (.aload_n 3, 1) := dk_45 (dk_at dksJ5_newNode_0 6 rfl rfl)
theorem dJ5_newNode_7 : decode cJ5_newNode 7 = .ok (.aload 4, 2) := dk_25 4 (dk_at dksJ5_newNode_0 7 rfl rfl)
theorem dJ5_newNode_9 : decode cJ5_newNode 9 = .ok (.invokespecial 28, 3) := dk_183 0 28 (dk_at dksJ5_newNode_0 9 rfl rfl)
theorem dJ5_newNode_12 : decode cJ5_newNode 12 = .ok (.astore 5, 2) := dk_58 5 (dk_at dksJ5_newNode_0 12 rfl rfl)
theorem dJ5_newNode_14 : decode cJ5_newNode 14 = .ok (.aload_n 0, 1) := dk_42 (dk_at dksJ5_newNode_0 14 rfl rfl)
theorem dJ5_newNode_15 : decode cJ5_newNode 15 = .ok (.aload 5, 2) := dk_25 5 (dk_at dksJ5_newNode_0 15 rfl rfl)
theorem dJ5_newNode_17 : decode cJ5_newNode 17 = .ok (.invokevirtual 32, 3) := dk_182 0 32 (dk_at dksJ5_newNode_0 17 rfl rfl)
theorem dJ5_newNode_20 : decode cJ5_newNode 20 = .ok (.aload 5, 2) := dk_25 5 (dk_at dksJ5_newNode_0 20 rfl rfl)
theorem dJ5_newNode_22 : decode cJ5_newNode 22 = .ok (.areturn, 1) := dk_176 (dk_at dksJ5_newNode_0 22 rfl rfl)
abbrev cJ5_linkNodeAtEnd : ByteArray := prog_49_method_1_code
def yJ5_linkNodeAtEnd : MethodName := ⟨RJ5, "linkNodeAtEnd", "(Ljava/util/LinkedHashMap$Entry;)V"⟩
def dkwJ5_linkNodeAtEnd_3 : List UInt8 := [181, 0, 14, 177]
abbrev dktJ5_linkNodeAtEnd_3 : List UInt8 := dkwJ5_linkNodeAtEnd_3 ++ []
def dkwJ5_linkNodeAtEnd_2 : List UInt8 := [42, 43, 181, 0, 11, 44, 199, 0, 11, 42, 43, 181, 0, 7, 167, 0, 13, 43, 44, 181, 0, 19, 44, 43]
abbrev dktJ5_linkNodeAtEnd_2 : List UInt8 := dkwJ5_linkNodeAtEnd_2 ++ dktJ5_linkNodeAtEnd_3
def dkwJ5_linkNodeAtEnd_1 : List UInt8 := [181, 0, 11, 167, 0, 13, 43, 44, 181, 0, 14, 44, 43, 181, 0, 19, 167, 0, 35, 42, 180, 0, 11, 77]
abbrev dktJ5_linkNodeAtEnd_1 : List UInt8 := dkwJ5_linkNodeAtEnd_1 ++ dktJ5_linkNodeAtEnd_2
def dkwJ5_linkNodeAtEnd_0 : List UInt8 := [42, 180, 0, 1, 4, 160, 0, 38, 42, 180, 0, 7, 77, 42, 43, 181, 0, 7, 44, 199, 0, 11, 42, 43]
abbrev dktJ5_linkNodeAtEnd_0 : List UInt8 := dkwJ5_linkNodeAtEnd_0 ++ dktJ5_linkNodeAtEnd_1
theorem dksJ5_linkNodeAtEnd_0 : cJ5_linkNodeAtEnd.data.toList.drop 0 = dktJ5_linkNodeAtEnd_0 := by decide +kernel
theorem dksJ5_linkNodeAtEnd_1 : cJ5_linkNodeAtEnd.data.toList.drop 24 = dktJ5_linkNodeAtEnd_1 := dk_seg dksJ5_linkNodeAtEnd_0 24 rfl rfl
theorem dksJ5_linkNodeAtEnd_2 : cJ5_linkNodeAtEnd.data.toList.drop 48 = dktJ5_linkNodeAtEnd_2 := dk_seg dksJ5_linkNodeAtEnd_1 24 rfl rfl
theorem dksJ5_linkNodeAtEnd_3 : cJ5_linkNodeAtEnd.data.toList.drop 72 = dktJ5_linkNodeAtEnd_3 := dk_seg dksJ5_linkNodeAtEnd_2 24 rfl rfl
theorem dJ5_linkNodeAtEnd_0 : decode cJ5_linkNodeAtEnd 0 = .ok (.aload_n 0, 1) := dk_42 (dk_at dksJ5_linkNodeAtEnd_0 0 rfl rfl)
theorem dJ5_linkNodeAtEnd_1 : decode cJ5_linkNodeAtEnd 1 = .ok (.getfield 1, 3) := dk_180 0 1 (dk_at dksJ5_linkNodeAtEnd_0 1 rfl rfl)
theorem dJ5_linkNodeAtEnd_4 : decode cJ5_linkNodeAtEnd 4 = .ok (.iconst 1, 1) := dk_4 (dk_at dksJ5_linkNodeAtEnd_0 4 rfl rfl)
theorem dJ5_linkNodeAtEnd_5 : decode cJ5_linkNodeAtEnd 5 = .ok (.if_icmp .ne 38, 3) := dk_160 0 38 (dk_at dksJ5_linkNodeAtEnd_0 5 rfl rfl)
theorem dJ5_linkNodeAtEnd_8 : decode cJ5_linkNodeAtEnd 8 = .ok (.aload_n 0, 1) := dk_42 (dk_at dksJ5_linkNodeAtEnd_0 8 rfl rfl)
theorem dJ5_linkNodeAtEnd_9 : decode cJ5_linkNodeAtEnd 9 = .ok (.getfield 7, 3) := dk_180 0 7 (dk_at dksJ5_linkNodeAtEnd_0 9 rfl rfl)
theorem dJ5_linkNodeAtEnd_12 : decode cJ5_linkNodeAtEnd 12 = .ok (.astore_n 2, 1) := dk_77 (dk_at dksJ5_linkNodeAtEnd_0 12 rfl rfl)
theorem dJ5_linkNodeAtEnd_13 : decode cJ5_linkNodeAtEnd 13 = .ok (.aload_n 0, 1) := dk_42 (dk_at dksJ5_linkNodeAtEnd_0 13 rfl rfl)
theorem dJ5_linkNodeAtEnd_14 : decode cJ5_linkNodeAtEnd 14 = .ok (.aload_n 1, 1) := dk_43 (dk_at dksJ5_linkNodeAtEnd_0 14 rfl rfl)
theorem dJ5_linkNodeAtEnd_15 : decode cJ5_linkNodeAtEnd 15 = .ok (.putfield 7, 3) := dk_181 0 7 (dk_at dksJ5_linkNodeAtEnd_0 15 rfl rfl)
theorem dJ5_linkNodeAtEnd_18 : decode cJ5_linkNodeAtEnd 18 = .ok (.aload_n 2, 1) := dk_44 (dk_at dksJ5_linkNodeAtEnd_0 18 rfl rfl)
theorem dJ5_linkNodeAtEnd_19 : decode cJ5_linkNodeAtEnd 19 = .ok (.ifnonnull 11, 3) := dk_199 0 11 (dk_at dksJ5_linkNodeAtEnd_0 19 rfl rfl)
theorem dJ5_linkNodeAtEnd_22 : decode cJ5_linkNodeAtEnd 22 = .ok (.aload_n 0, 1) := dk_42 (dk_at dksJ5_linkNodeAtEnd_0 22 rfl rfl)
theorem dJ5_linkNodeAtEnd_23 : decode cJ5_linkNodeAtEnd 23 = .ok (.aload_n 1, 1) := dk_43 (dk_at dksJ5_linkNodeAtEnd_0 23 rfl rfl)
theorem dJ5_linkNodeAtEnd_24 : decode cJ5_linkNodeAtEnd 24 = .ok (.putfield 11, 3) := dk_181 0 11 (dk_at dksJ5_linkNodeAtEnd_1 0 rfl rfl)
theorem dJ5_linkNodeAtEnd_27 : decode cJ5_linkNodeAtEnd 27 = .ok (.goto 13, 3) := dk_167 0 13 (dk_at dksJ5_linkNodeAtEnd_1 3 rfl rfl)
theorem dJ5_linkNodeAtEnd_30 : decode cJ5_linkNodeAtEnd 30 = .ok (.aload_n 1, 1) := dk_43 (dk_at dksJ5_linkNodeAtEnd_1 6 rfl rfl)
theorem dJ5_linkNodeAtEnd_31 : decode cJ5_linkNodeAtEnd 31 = .ok (.aload_n 2, 1) := dk_44 (dk_at dksJ5_linkNodeAtEnd_1 7 rfl rfl)
theorem dJ5_linkNodeAtEnd_32 : decode cJ5_linkNodeAtEnd 32 = .ok (.putfield 14, 3) := dk_181 0 14 (dk_at dksJ5_linkNodeAtEnd_1 8 rfl rfl)
theorem dJ5_linkNodeAtEnd_35 : decode cJ5_linkNodeAtEnd 35 = .ok (.aload_n 2, 1) := dk_44 (dk_at dksJ5_linkNodeAtEnd_1 11 rfl rfl)
theorem dJ5_linkNodeAtEnd_36 : decode cJ5_linkNodeAtEnd 36 = .ok (.aload_n 1, 1) := dk_43 (dk_at dksJ5_linkNodeAtEnd_1 12 rfl rfl)
theorem dJ5_linkNodeAtEnd_37 : decode cJ5_linkNodeAtEnd 37 = .ok (.putfield 19, 3) := dk_181 0 19 (dk_at dksJ5_linkNodeAtEnd_1 13 rfl rfl)
theorem dJ5_linkNodeAtEnd_40 : decode cJ5_linkNodeAtEnd 40 = .ok (.goto 35, 3) := dk_167 0 35 (dk_at dksJ5_linkNodeAtEnd_1 16 rfl rfl)
theorem dJ5_linkNodeAtEnd_43 : decode cJ5_linkNodeAtEnd 43 = .ok (.aload_n 0, 1) := dk_42 (dk_at dksJ5_linkNodeAtEnd_1 19 rfl rfl)
theorem dJ5_linkNodeAtEnd_44 : decode cJ5_linkNodeAtEnd 44 = .ok (.getfield 11, 3) := dk_180 0 11 (dk_at dksJ5_linkNodeAtEnd_1 20 rfl rfl)
theorem dJ5_linkNodeAtEnd_47 : decode cJ5_linkNodeAtEnd 47 = .ok (.astore_n 2, 1) := dk_77 (dk_at dksJ5_linkNodeAtEnd_1 23 rfl rfl)
theorem dJ5_linkNodeAtEnd_48 : decode cJ5_linkNodeAtEnd 48 = .ok (.aload_n 0, 1) := dk_42 (dk_at dksJ5_linkNodeAtEnd_2 0 rfl rfl)
theorem dJ5_linkNodeAtEnd_49 : decode cJ5_linkNodeAtEnd 49 = .ok (.aload_n 1, 1) := dk_43 (dk_at dksJ5_linkNodeAtEnd_2 1 rfl rfl)
theorem dJ5_linkNodeAtEnd_50 : decode cJ5_linkNodeAtEnd 50 = .ok (.putfield 11, 3) := dk_181 0 11 (dk_at dksJ5_linkNodeAtEnd_2 2 rfl rfl)
theorem dJ5_linkNodeAtEnd_53 : decode cJ5_linkNodeAtEnd 53 = .ok (.aload_n 2, 1) := dk_44 (dk_at dksJ5_linkNodeAtEnd_2 5 rfl rfl)
theorem dJ5_linkNodeAtEnd_54 : decode cJ5_linkNodeAtEnd 54 = .ok (.ifnonnull 11, 3) := dk_199 0 11 (dk_at dksJ5_linkNodeAtEnd_2 6 rfl rfl)
theorem dJ5_linkNodeAtEnd_57 : decode cJ5_linkNodeAtEnd 57 = .ok (.aload_n 0, 1) := dk_42 (dk_at dksJ5_linkNodeAtEnd_2 9 rfl rfl)
theorem dJ5_linkNodeAtEnd_58 : decode cJ5_linkNodeAtEnd 58 = .ok (.aload_n 1, 1) := dk_43 (dk_at dksJ5_linkNodeAtEnd_2 10 rfl rfl)
theorem dJ5_linkNodeAtEnd_59 : decode cJ5_linkNodeAtEnd 59 = .ok (.putfield 7, 3) := dk_181 0 7 (dk_at dksJ5_linkNodeAtEnd_2 11 rfl rfl)
theorem dJ5_linkNodeAtEnd_62 : decode cJ5_linkNodeAtEnd 62 = .ok (.goto 13, 3) := dk_167 0 13 (dk_at dksJ5_linkNodeAtEnd_2 14 rfl rfl)
theorem dJ5_linkNodeAtEnd_65 : decode cJ5_linkNodeAtEnd 65 = .ok (.aload_n 1, 1) := dk_43 (dk_at dksJ5_linkNodeAtEnd_2 17 rfl rfl)
theorem dJ5_linkNodeAtEnd_66 : decode cJ5_linkNodeAtEnd 66 = .ok (.aload_n 2, 1) := dk_44 (dk_at dksJ5_linkNodeAtEnd_2 18 rfl rfl)
theorem dJ5_linkNodeAtEnd_67 : decode cJ5_linkNodeAtEnd 67 = .ok (.putfield 19, 3) := dk_181 0 19 (dk_at dksJ5_linkNodeAtEnd_2 19 rfl rfl)
theorem dJ5_linkNodeAtEnd_70 : decode cJ5_linkNodeAtEnd 70 = .ok (.aload_n 2, 1) := dk_44 (dk_at dksJ5_linkNodeAtEnd_2 22 rfl rfl)
theorem dJ5_linkNodeAtEnd_71 : decode cJ5_linkNodeAtEnd 71 = .ok (.aload_n 1, 1) := dk_43 (dk_at dksJ5_linkNodeAtEnd_2 23 rfl rfl)
theorem dJ5_linkNodeAtEnd_72 : decode cJ5_linkNodeAtEnd 72 = .ok (.putfield 14, 3) := dk_181 0 14 (dk_at dksJ5_linkNodeAtEnd_3 0 rfl rfl)
theorem dJ5_linkNodeAtEnd_75 : decode cJ5_linkNodeAtEnd 75 = .ok (.return_, 1) := dk_177 (dk_at dksJ5_linkNodeAtEnd_3 3 rfl rfl)
abbrev cJ5_newTreeNode : ByteArray := prog_49_method_6_code
def yJ5_newTreeNode : MethodName := ⟨RJ5, "newTreeNode", "(ILjava/lang/Object;Ljava/lang/Object;Ljava/util/HashMap$Node;)Ljava/util/HashMap$TreeNode;"⟩
def dkwJ5_newTreeNode_0 : List UInt8 := [187, 0, 50, 89, 27, 44, 45, 25, 4, 183, 0, 52, 58, 5, 42, 25, 5, 182, 0, 32, 25, 5, 176]
abbrev dktJ5_newTreeNode_0 : List UInt8 := dkwJ5_newTreeNode_0 ++ []
theorem dksJ5_newTreeNode_0 : cJ5_newTreeNode.data.toList.drop 0 = dktJ5_newTreeNode_0 := by decide +kernel
theorem dJ5_newTreeNode_0 : decode cJ5_newTreeNode 0 = .ok (.new 50, 3) := dk_187 0 50 (dk_at dksJ5_newTreeNode_0 0 rfl rfl)
theorem dJ5_newTreeNode_3 : decode cJ5_newTreeNode 3 = .ok (.dup, 1) := dk_89 (dk_at dksJ5_newTreeNode_0 3 rfl rfl)
theorem dJ5_newTreeNode_4 : decode cJ5_newTreeNode 4 = .ok (.iload_n 1, 1) := dk_27 (dk_at dksJ5_newTreeNode_0 4 rfl rfl)
theorem dJ5_newTreeNode_5 : decode cJ5_newTreeNode 5 = .ok (.aload_n 2, 1) := dk_44 (dk_at dksJ5_newTreeNode_0 5 rfl rfl)
theorem dJ5_newTreeNode_6 : decode cJ5_newTreeNode 6 = .ok (.aload_n 3, 1) := dk_45 (dk_at dksJ5_newTreeNode_0 6 rfl rfl)
theorem dJ5_newTreeNode_7 : decode cJ5_newTreeNode 7 = .ok (.aload 4, 2) := dk_25 4 (dk_at dksJ5_newTreeNode_0 7 rfl rfl)
theorem dJ5_newTreeNode_9 : decode cJ5_newTreeNode 9 = .ok (.invokespecial 52, 3) := dk_183 0 52 (dk_at dksJ5_newTreeNode_0 9 rfl rfl)
theorem dJ5_newTreeNode_12 : decode cJ5_newTreeNode 12 = .ok (.astore 5, 2) := dk_58 5 (dk_at dksJ5_newTreeNode_0 12 rfl rfl)
theorem dJ5_newTreeNode_14 : decode cJ5_newTreeNode 14 = .ok (.aload_n 0, 1) := dk_42 (dk_at dksJ5_newTreeNode_0 14 rfl rfl)
theorem dJ5_newTreeNode_15 : decode cJ5_newTreeNode 15 = .ok (.aload 5, 2) := dk_25 5 (dk_at dksJ5_newTreeNode_0 15 rfl rfl)
theorem dJ5_newTreeNode_17 : decode cJ5_newTreeNode 17 = .ok (.invokevirtual 32, 3) := dk_182 0 32 (dk_at dksJ5_newTreeNode_0 17 rfl rfl)
theorem dJ5_newTreeNode_20 : decode cJ5_newTreeNode 20 = .ok (.aload 5, 2) := dk_25 5 (dk_at dksJ5_newTreeNode_0 20 rfl rfl)
theorem dJ5_newTreeNode_22 : decode cJ5_newTreeNode 22 = .ok (.areturn, 1) := dk_176 (dk_at dksJ5_newTreeNode_0 22 rfl rfl)
abbrev cJ5_replacementTreeNode : ByteArray := prog_49_method_7_code
def yJ5_replacementTreeNode : MethodName := ⟨RJ5, "replacementTreeNode", "(Ljava/util/HashMap$Node;Ljava/util/HashMap$Node;)Ljava/util/HashMap$TreeNode;"⟩
def dkwJ5_replacementTreeNode_1 : List UInt8 := [183, 0, 52, 58, 4, 42, 45, 25, 4, 182, 0, 46, 25, 4, 176]
abbrev dktJ5_replacementTreeNode_1 : List UInt8 := dkwJ5_replacementTreeNode_1 ++ []
def dkwJ5_replacementTreeNode_0 : List UInt8 := [43, 192, 0, 15, 78, 187, 0, 50, 89, 45, 180, 0, 36, 45, 180, 0, 39, 45, 180, 0, 43, 44]
abbrev dktJ5_replacementTreeNode_0 : List UInt8 := dkwJ5_replacementTreeNode_0 ++ dktJ5_replacementTreeNode_1
theorem dksJ5_replacementTreeNode_0 : cJ5_replacementTreeNode.data.toList.drop 0 = dktJ5_replacementTreeNode_0 := by decide +kernel
theorem dksJ5_replacementTreeNode_1 : cJ5_replacementTreeNode.data.toList.drop 22 = dktJ5_replacementTreeNode_1 := dk_seg dksJ5_replacementTreeNode_0 22 rfl rfl
theorem dJ5_replacementTreeNode_0 : decode cJ5_replacementTreeNode 0 = .ok (.aload_n 1, 1) := dk_43 (dk_at dksJ5_replacementTreeNode_0 0 rfl rfl)
theorem dJ5_replacementTreeNode_1 : decode cJ5_replacementTreeNode 1 = .ok (.checkcast 15, 3) := dk_192 0 15 (dk_at dksJ5_replacementTreeNode_0 1 rfl rfl)
theorem dJ5_replacementTreeNode_4 : decode cJ5_replacementTreeNode 4 = .ok (.astore_n 3, 1) := dk_78 (dk_at dksJ5_replacementTreeNode_0 4 rfl rfl)
theorem dJ5_replacementTreeNode_5 : decode cJ5_replacementTreeNode 5 = .ok (.new 50, 3) := dk_187 0 50 (dk_at dksJ5_replacementTreeNode_0 5 rfl rfl)
theorem dJ5_replacementTreeNode_8 : decode cJ5_replacementTreeNode 8 = .ok (.dup, 1) := dk_89 (dk_at dksJ5_replacementTreeNode_0 8 rfl rfl)
theorem dJ5_replacementTreeNode_9 : decode cJ5_replacementTreeNode 9 = .ok (.aload_n 3, 1) := dk_45 (dk_at dksJ5_replacementTreeNode_0 9 rfl rfl)
theorem dJ5_replacementTreeNode_10 : decode cJ5_replacementTreeNode 10 = .ok (.getfield 36, 3) := dk_180 0 36 (dk_at dksJ5_replacementTreeNode_0 10 rfl rfl)
theorem dJ5_replacementTreeNode_13 : decode cJ5_replacementTreeNode 13 = .ok (.aload_n 3, 1) := dk_45 (dk_at dksJ5_replacementTreeNode_0 13 rfl rfl)
theorem dJ5_replacementTreeNode_14 : decode cJ5_replacementTreeNode 14 = .ok (.getfield 39, 3) := dk_180 0 39 (dk_at dksJ5_replacementTreeNode_0 14 rfl rfl)
theorem dJ5_replacementTreeNode_17 : decode cJ5_replacementTreeNode 17 = .ok (.aload_n 3, 1) := dk_45 (dk_at dksJ5_replacementTreeNode_0 17 rfl rfl)
theorem dJ5_replacementTreeNode_18 : decode cJ5_replacementTreeNode 18 = .ok (.getfield 43, 3) := dk_180 0 43 (dk_at dksJ5_replacementTreeNode_0 18 rfl rfl)
theorem dJ5_replacementTreeNode_21 : decode cJ5_replacementTreeNode 21 = .ok (.aload_n 2, 1) := dk_44 (dk_at dksJ5_replacementTreeNode_0 21 rfl rfl)
theorem dJ5_replacementTreeNode_22 : decode cJ5_replacementTreeNode 22 = .ok (.invokespecial 52, 3) := dk_183 0 52 (dk_at dksJ5_replacementTreeNode_1 0 rfl rfl)
theorem dJ5_replacementTreeNode_25 : decode cJ5_replacementTreeNode 25 = .ok (.astore 4, 2) := dk_58 4 (dk_at dksJ5_replacementTreeNode_1 3 rfl rfl)
theorem dJ5_replacementTreeNode_27 : decode cJ5_replacementTreeNode 27 = .ok (.aload_n 0, 1) := dk_42 (dk_at dksJ5_replacementTreeNode_1 5 rfl rfl)
theorem dJ5_replacementTreeNode_28 : decode cJ5_replacementTreeNode 28 = .ok (.aload_n 3, 1) := dk_45 (dk_at dksJ5_replacementTreeNode_1 6 rfl rfl)
theorem dJ5_replacementTreeNode_29 : decode cJ5_replacementTreeNode 29 = .ok (.aload 4, 2) := dk_25 4 (dk_at dksJ5_replacementTreeNode_1 7 rfl rfl)
theorem dJ5_replacementTreeNode_31 : decode cJ5_replacementTreeNode 31 = .ok (.invokevirtual 46, 3) := dk_182 0 46 (dk_at dksJ5_replacementTreeNode_1 9 rfl rfl)
theorem dJ5_replacementTreeNode_34 : decode cJ5_replacementTreeNode 34 = .ok (.aload 4, 2) := dk_25 4 (dk_at dksJ5_replacementTreeNode_1 12 rfl rfl)
theorem dJ5_replacementTreeNode_36 : decode cJ5_replacementTreeNode 36 = .ok (.areturn, 1) := dk_176 (dk_at dksJ5_replacementTreeNode_1 14 rfl rfl)
abbrev cJ5_afterNodeAccess : ByteArray := prog_49_method_10_code
def yJ5_afterNodeAccess : MethodName := ⟨RJ5, "afterNodeAccess", "(Ljava/util/HashMap$Node;)V"⟩
abbrev cJ5_afterNodeInsertion : ByteArray := prog_49_method_9_code
def yJ5_afterNodeInsertion : MethodName := ⟨RJ5, "afterNodeInsertion", "(Z)V"⟩
def dkwJ5_afterNodeInsertion_1 : List UInt8 := [180, 0, 39, 78, 42, 45, 184, 0, 57, 45, 1, 3, 4, 182, 0, 60, 87, 177]
abbrev dktJ5_afterNodeInsertion_1 : List UInt8 := dkwJ5_afterNodeInsertion_1 ++ []
def dkwJ5_afterNodeInsertion_0 : List UInt8 := [27, 153, 0, 38, 42, 180, 0, 7, 89, 77, 198, 0, 29, 42, 44, 182, 0, 53, 153, 0, 21, 44]
abbrev dktJ5_afterNodeInsertion_0 : List UInt8 := dkwJ5_afterNodeInsertion_0 ++ dktJ5_afterNodeInsertion_1
theorem dksJ5_afterNodeInsertion_0 : cJ5_afterNodeInsertion.data.toList.drop 0 = dktJ5_afterNodeInsertion_0 := by decide +kernel
theorem dksJ5_afterNodeInsertion_1 : cJ5_afterNodeInsertion.data.toList.drop 22 = dktJ5_afterNodeInsertion_1 := dk_seg dksJ5_afterNodeInsertion_0 22 rfl rfl
theorem dJ5_afterNodeInsertion_0 : decode cJ5_afterNodeInsertion 0 = .ok (.iload_n 1, 1) := dk_27 (dk_at dksJ5_afterNodeInsertion_0 0 rfl rfl)
theorem dJ5_afterNodeInsertion_1 : decode cJ5_afterNodeInsertion 1 = .ok (.ifCond .eq 38, 3) := dk_153 0 38 (dk_at dksJ5_afterNodeInsertion_0 1 rfl rfl)
theorem dJ5_afterNodeInsertion_4 : decode cJ5_afterNodeInsertion 4 = .ok (.aload_n 0, 1) := dk_42 (dk_at dksJ5_afterNodeInsertion_0 4 rfl rfl)
theorem dJ5_afterNodeInsertion_5 : decode cJ5_afterNodeInsertion 5 = .ok (.getfield 7, 3) := dk_180 0 7 (dk_at dksJ5_afterNodeInsertion_0 5 rfl rfl)
theorem dJ5_afterNodeInsertion_8 : decode cJ5_afterNodeInsertion 8 = .ok (.dup, 1) := dk_89 (dk_at dksJ5_afterNodeInsertion_0 8 rfl rfl)
theorem dJ5_afterNodeInsertion_9 : decode cJ5_afterNodeInsertion 9 = .ok (.astore_n 2, 1) := dk_77 (dk_at dksJ5_afterNodeInsertion_0 9 rfl rfl)
theorem dJ5_afterNodeInsertion_10 : decode cJ5_afterNodeInsertion 10 = .ok (.ifnull 29, 3) := dk_198 0 29 (dk_at dksJ5_afterNodeInsertion_0 10 rfl rfl)
theorem dJ5_afterNodeInsertion_13 : decode cJ5_afterNodeInsertion 13 = .ok (.aload_n 0, 1) := dk_42 (dk_at dksJ5_afterNodeInsertion_0 13 rfl rfl)
theorem dJ5_afterNodeInsertion_14 : decode cJ5_afterNodeInsertion 14 = .ok (.aload_n 2, 1) := dk_44 (dk_at dksJ5_afterNodeInsertion_0 14 rfl rfl)
theorem dJ5_afterNodeInsertion_15 : decode cJ5_afterNodeInsertion 15 = .ok (.invokevirtual 53, 3) := dk_182 0 53 (dk_at dksJ5_afterNodeInsertion_0 15 rfl rfl)
theorem dJ5_afterNodeInsertion_18 : decode cJ5_afterNodeInsertion 18 = .ok (.ifCond .eq 21, 3) := dk_153 0 21 (dk_at dksJ5_afterNodeInsertion_0 18 rfl rfl)
theorem dJ5_afterNodeInsertion_21 : decode cJ5_afterNodeInsertion 21 = .ok (.aload_n 2, 1) := dk_44 (dk_at dksJ5_afterNodeInsertion_0 21 rfl rfl)
theorem dJ5_afterNodeInsertion_22 : decode cJ5_afterNodeInsertion 22 = .ok (.getfield 39, 3) := dk_180 0 39 (dk_at dksJ5_afterNodeInsertion_1 0 rfl rfl)
theorem dJ5_afterNodeInsertion_25 : decode cJ5_afterNodeInsertion 25 = .ok (.astore_n 3, 1) := dk_78 (dk_at dksJ5_afterNodeInsertion_1 3 rfl rfl)
theorem dJ5_afterNodeInsertion_26 : decode cJ5_afterNodeInsertion 26 = .ok (.aload_n 0, 1) := dk_42 (dk_at dksJ5_afterNodeInsertion_1 4 rfl rfl)
theorem dJ5_afterNodeInsertion_27 : decode cJ5_afterNodeInsertion 27 = .ok (.aload_n 3, 1) := dk_45 (dk_at dksJ5_afterNodeInsertion_1 5 rfl rfl)
theorem dJ5_afterNodeInsertion_28 : decode cJ5_afterNodeInsertion 28 = .ok (.invokestatic 57, 3) := dk_184 0 57 (dk_at dksJ5_afterNodeInsertion_1 6 rfl rfl)
theorem dJ5_afterNodeInsertion_31 : decode cJ5_afterNodeInsertion 31 = .ok (.aload_n 3, 1) := dk_45 (dk_at dksJ5_afterNodeInsertion_1 9 rfl rfl)
theorem dJ5_afterNodeInsertion_32 : decode cJ5_afterNodeInsertion 32 = .ok (.aconst_null, 1) := dk_1 (dk_at dksJ5_afterNodeInsertion_1 10 rfl rfl)
theorem dJ5_afterNodeInsertion_33 : decode cJ5_afterNodeInsertion 33 = .ok (.iconst 0, 1) := dk_3 (dk_at dksJ5_afterNodeInsertion_1 11 rfl rfl)
theorem dJ5_afterNodeInsertion_34 : decode cJ5_afterNodeInsertion 34 = .ok (.iconst 1, 1) := dk_4 (dk_at dksJ5_afterNodeInsertion_1 12 rfl rfl)
theorem dJ5_afterNodeInsertion_35 : decode cJ5_afterNodeInsertion 35 = .ok (.invokevirtual 60, 3) := dk_182 0 60 (dk_at dksJ5_afterNodeInsertion_1 13 rfl rfl)
theorem dJ5_afterNodeInsertion_38 : decode cJ5_afterNodeInsertion 38 = .ok (.pop, 1) := dk_87 (dk_at dksJ5_afterNodeInsertion_1 16 rfl rfl)
theorem dJ5_afterNodeInsertion_39 : decode cJ5_afterNodeInsertion 39 = .ok (.return_, 1) := dk_177 (dk_at dksJ5_afterNodeInsertion_1 17 rfl rfl)
abbrev cJ5_removeEldestEntry : ByteArray := prog_49_method_23_code
def yJ5_removeEldestEntry : MethodName := ⟨RJ5, "removeEldestEntry", "(Ljava/util/Map$Entry;)Z"⟩
abbrev cJ5_get : ByteArray := prog_49_method_20_code
def yJ5_get : MethodName := ⟨RJ5, "get", "(Ljava/lang/Object;)Ljava/lang/Object;"⟩
def dkwJ5_get_1 : List UInt8 := [44, 180, 0, 107, 176]
abbrev dktJ5_get_1 : List UInt8 := dkwJ5_get_1 ++ []
def dkwJ5_get_0 : List UInt8 := [42, 43, 182, 0, 99, 89, 77, 199, 0, 5, 1, 176, 42, 180, 0, 64, 153, 0, 8, 42, 44, 182, 0, 103]
abbrev dktJ5_get_0 : List UInt8 := dkwJ5_get_0 ++ dktJ5_get_1
theorem dksJ5_get_0 : cJ5_get.data.toList.drop 0 = dktJ5_get_0 := by decide +kernel
theorem dksJ5_get_1 : cJ5_get.data.toList.drop 24 = dktJ5_get_1 := dk_seg dksJ5_get_0 24 rfl rfl
theorem dJ5_get_0 : decode cJ5_get 0 = .ok (.aload_n 0, 1) := dk_42 (dk_at dksJ5_get_0 0 rfl rfl)
theorem dJ5_get_1 : decode cJ5_get 1 = .ok (.aload_n 1, 1) := dk_43 (dk_at dksJ5_get_0 1 rfl rfl)
theorem dJ5_get_2 : decode cJ5_get 2 = .ok (.invokevirtual 99, 3) := dk_182 0 99 (dk_at dksJ5_get_0 2 rfl rfl)
theorem dJ5_get_5 : decode cJ5_get 5 = .ok (.dup, 1) := dk_89 (dk_at dksJ5_get_0 5 rfl rfl)
theorem dJ5_get_6 : decode cJ5_get 6 = .ok (.astore_n 2, 1) := dk_77 (dk_at dksJ5_get_0 6 rfl rfl)
theorem dJ5_get_7 : decode cJ5_get 7 = .ok (.ifnonnull 5, 3) := dk_199 0 5 (dk_at dksJ5_get_0 7 rfl rfl)
theorem dJ5_get_10 : decode cJ5_get 10 = .ok (.aconst_null, 1) := dk_1 (dk_at dksJ5_get_0 10 rfl rfl)
theorem dJ5_get_11 : decode cJ5_get 11 = .ok (.areturn, 1) := dk_176 (dk_at dksJ5_get_0 11 rfl rfl)
theorem dJ5_get_12 : decode cJ5_get 12 = .ok (.aload_n 0, 1) := dk_42 (dk_at dksJ5_get_0 12 rfl rfl)
theorem dJ5_get_13 : decode cJ5_get 13 = .ok (.getfield 64, 3) := dk_180 0 64 (dk_at dksJ5_get_0 13 rfl rfl)
theorem dJ5_get_16 : decode cJ5_get 16 = .ok (.ifCond .eq 8, 3) := dk_153 0 8 (dk_at dksJ5_get_0 16 rfl rfl)
theorem dJ5_get_19 : decode cJ5_get 19 = .ok (.aload_n 0, 1) := dk_42 (dk_at dksJ5_get_0 19 rfl rfl)
theorem dJ5_get_20 : decode cJ5_get 20 = .ok (.aload_n 2, 1) := dk_44 (dk_at dksJ5_get_0 20 rfl rfl)
theorem dJ5_get_21 : decode cJ5_get 21 = .ok (.invokevirtual 103, 3) := dk_182 0 103 (dk_at dksJ5_get_0 21 rfl rfl)
theorem dJ5_get_24 : decode cJ5_get 24 = .ok (.aload_n 2, 1) := dk_44 (dk_at dksJ5_get_1 0 rfl rfl)
theorem dJ5_get_25 : decode cJ5_get 25 = .ok (.getfield 107, 3) := dk_180 0 107 (dk_at dksJ5_get_1 1 rfl rfl)
theorem dJ5_get_28 : decode cJ5_get 28 = .ok (.areturn, 1) := dk_176 (dk_at dksJ5_get_1 4 rfl rfl)
abbrev cJ5_afterNodeRemoval : ByteArray := prog_49_method_8_code
def yJ5_afterNodeRemoval : MethodName := ⟨RJ5, "afterNodeRemoval", "(Ljava/util/HashMap$Node;)V"⟩
def dkwJ5_afterNodeRemoval_2 : List UInt8 := [199, 0, 11, 42, 45, 181, 0, 11, 167, 0, 9, 25, 4, 45, 181, 0, 19, 177]
abbrev dktJ5_afterNodeRemoval_2 : List UInt8 := dkwJ5_afterNodeRemoval_2 ++ []
def dkwJ5_afterNodeRemoval_1 : List UInt8 := [181, 0, 19, 45, 199, 0, 12, 42, 25, 4, 181, 0, 7, 167, 0, 9, 45, 25, 4, 181, 0, 14, 25, 4]
abbrev dktJ5_afterNodeRemoval_1 : List UInt8 := dkwJ5_afterNodeRemoval_1 ++ dktJ5_afterNodeRemoval_2
def dkwJ5_afterNodeRemoval_0 : List UInt8 := [43, 192, 0, 15, 77, 44, 180, 0, 19, 78, 44, 180, 0, 14, 58, 4, 44, 44, 1, 90, 181, 0, 14]
abbrev dktJ5_afterNodeRemoval_0 : List UInt8 := dkwJ5_afterNodeRemoval_0 ++ dktJ5_afterNodeRemoval_1
theorem dksJ5_afterNodeRemoval_0 : cJ5_afterNodeRemoval.data.toList.drop 0 = dktJ5_afterNodeRemoval_0 := by decide +kernel
theorem dksJ5_afterNodeRemoval_1 : cJ5_afterNodeRemoval.data.toList.drop 23 = dktJ5_afterNodeRemoval_1 := dk_seg dksJ5_afterNodeRemoval_0 23 rfl rfl
theorem dksJ5_afterNodeRemoval_2 : cJ5_afterNodeRemoval.data.toList.drop 47 = dktJ5_afterNodeRemoval_2 := dk_seg dksJ5_afterNodeRemoval_1 24 rfl rfl
theorem dJ5_afterNodeRemoval_0 : decode cJ5_afterNodeRemoval 0 = .ok (.aload_n 1, 1) := dk_43 (dk_at dksJ5_afterNodeRemoval_0 0 rfl rfl)
theorem dJ5_afterNodeRemoval_1 : decode cJ5_afterNodeRemoval 1 = .ok (.checkcast 15, 3) := dk_192 0 15 (dk_at dksJ5_afterNodeRemoval_0 1 rfl rfl)
theorem dJ5_afterNodeRemoval_4 : decode cJ5_afterNodeRemoval 4 = .ok (.astore_n 2, 1) := dk_77 (dk_at dksJ5_afterNodeRemoval_0 4 rfl rfl)
theorem dJ5_afterNodeRemoval_5 : decode cJ5_afterNodeRemoval 5 = .ok (.aload_n 2, 1) := dk_44 (dk_at dksJ5_afterNodeRemoval_0 5 rfl rfl)
theorem dJ5_afterNodeRemoval_6 : decode cJ5_afterNodeRemoval 6 = .ok (.getfield 19, 3) := dk_180 0 19 (dk_at dksJ5_afterNodeRemoval_0 6 rfl rfl)
theorem dJ5_afterNodeRemoval_9 : decode cJ5_afterNodeRemoval 9 = .ok (.astore_n 3, 1) := dk_78 (dk_at dksJ5_afterNodeRemoval_0 9 rfl rfl)
theorem dJ5_afterNodeRemoval_10 : decode cJ5_afterNodeRemoval 10 = .ok (.aload_n 2, 1) := dk_44 (dk_at dksJ5_afterNodeRemoval_0 10 rfl rfl)
theorem dJ5_afterNodeRemoval_11 : decode cJ5_afterNodeRemoval 11 = .ok (.getfield 14, 3) := dk_180 0 14 (dk_at dksJ5_afterNodeRemoval_0 11 rfl rfl)
theorem dJ5_afterNodeRemoval_14 : decode cJ5_afterNodeRemoval 14 = .ok (.astore 4, 2) := dk_58 4 (dk_at dksJ5_afterNodeRemoval_0 14 rfl rfl)
theorem dJ5_afterNodeRemoval_16 : decode cJ5_afterNodeRemoval 16 = .ok (.aload_n 2, 1) := dk_44 (dk_at dksJ5_afterNodeRemoval_0 16 rfl rfl)
theorem dJ5_afterNodeRemoval_17 : decode cJ5_afterNodeRemoval 17 = .ok (.aload_n 2, 1) := dk_44 (dk_at dksJ5_afterNodeRemoval_0 17 rfl rfl)
theorem dJ5_afterNodeRemoval_18 : decode cJ5_afterNodeRemoval 18 = .ok (.aconst_null, 1) := dk_1 (dk_at dksJ5_afterNodeRemoval_0 18 rfl rfl)
theorem dJ5_afterNodeRemoval_19 : decode cJ5_afterNodeRemoval 19 = .ok (.dup_x1, 1) := dk_90 (dk_at dksJ5_afterNodeRemoval_0 19 rfl rfl)
theorem dJ5_afterNodeRemoval_20 : decode cJ5_afterNodeRemoval 20 = .ok (.putfield 14, 3) := dk_181 0 14 (dk_at dksJ5_afterNodeRemoval_0 20 rfl rfl)
theorem dJ5_afterNodeRemoval_23 : decode cJ5_afterNodeRemoval 23 = .ok (.putfield 19, 3) := dk_181 0 19 (dk_at dksJ5_afterNodeRemoval_1 0 rfl rfl)
theorem dJ5_afterNodeRemoval_26 : decode cJ5_afterNodeRemoval 26 = .ok (.aload_n 3, 1) := dk_45 (dk_at dksJ5_afterNodeRemoval_1 3 rfl rfl)
theorem dJ5_afterNodeRemoval_27 : decode cJ5_afterNodeRemoval 27 = .ok (.ifnonnull 12, 3) := dk_199 0 12 (dk_at dksJ5_afterNodeRemoval_1 4 rfl rfl)
theorem dJ5_afterNodeRemoval_30 : decode cJ5_afterNodeRemoval 30 = .ok (.aload_n 0, 1) := dk_42 (dk_at dksJ5_afterNodeRemoval_1 7 rfl rfl)
theorem dJ5_afterNodeRemoval_31 : decode cJ5_afterNodeRemoval 31 = .ok (.aload 4, 2) := dk_25 4 (dk_at dksJ5_afterNodeRemoval_1 8 rfl rfl)
theorem dJ5_afterNodeRemoval_33 : decode cJ5_afterNodeRemoval 33 = .ok (.putfield 7, 3) := dk_181 0 7 (dk_at dksJ5_afterNodeRemoval_1 10 rfl rfl)
theorem dJ5_afterNodeRemoval_36 : decode cJ5_afterNodeRemoval 36 = .ok (.goto 9, 3) := dk_167 0 9 (dk_at dksJ5_afterNodeRemoval_1 13 rfl rfl)
theorem dJ5_afterNodeRemoval_39 : decode cJ5_afterNodeRemoval 39 = .ok (.aload_n 3, 1) := dk_45 (dk_at dksJ5_afterNodeRemoval_1 16 rfl rfl)
theorem dJ5_afterNodeRemoval_40 : decode cJ5_afterNodeRemoval 40 = .ok (.aload 4, 2) := dk_25 4 (dk_at dksJ5_afterNodeRemoval_1 17 rfl rfl)
theorem dJ5_afterNodeRemoval_42 : decode cJ5_afterNodeRemoval 42 = .ok (.putfield 14, 3) := dk_181 0 14 (dk_at dksJ5_afterNodeRemoval_1 19 rfl rfl)
theorem dJ5_afterNodeRemoval_45 : decode cJ5_afterNodeRemoval 45 = .ok (.aload 4, 2) := dk_25 4 (dk_at dksJ5_afterNodeRemoval_1 22 rfl rfl)
theorem dJ5_afterNodeRemoval_47 : decode cJ5_afterNodeRemoval 47 = .ok (.ifnonnull 11, 3) := dk_199 0 11 (dk_at dksJ5_afterNodeRemoval_2 0 rfl rfl)
theorem dJ5_afterNodeRemoval_50 : decode cJ5_afterNodeRemoval 50 = .ok (.aload_n 0, 1) := dk_42 (dk_at dksJ5_afterNodeRemoval_2 3 rfl rfl)
theorem dJ5_afterNodeRemoval_51 : decode cJ5_afterNodeRemoval 51 = .ok (.aload_n 3, 1) := dk_45 (dk_at dksJ5_afterNodeRemoval_2 4 rfl rfl)
theorem dJ5_afterNodeRemoval_52 : decode cJ5_afterNodeRemoval 52 = .ok (.putfield 11, 3) := dk_181 0 11 (dk_at dksJ5_afterNodeRemoval_2 5 rfl rfl)
theorem dJ5_afterNodeRemoval_55 : decode cJ5_afterNodeRemoval 55 = .ok (.goto 9, 3) := dk_167 0 9 (dk_at dksJ5_afterNodeRemoval_2 8 rfl rfl)
theorem dJ5_afterNodeRemoval_58 : decode cJ5_afterNodeRemoval 58 = .ok (.aload 4, 2) := dk_25 4 (dk_at dksJ5_afterNodeRemoval_2 11 rfl rfl)
theorem dJ5_afterNodeRemoval_60 : decode cJ5_afterNodeRemoval 60 = .ok (.aload_n 3, 1) := dk_45 (dk_at dksJ5_afterNodeRemoval_2 13 rfl rfl)
theorem dJ5_afterNodeRemoval_61 : decode cJ5_afterNodeRemoval 61 = .ok (.putfield 19, 3) := dk_181 0 19 (dk_at dksJ5_afterNodeRemoval_2 14 rfl rfl)
theorem dJ5_afterNodeRemoval_64 : decode cJ5_afterNodeRemoval 64 = .ok (.return_, 1) := dk_177 (dk_at dksJ5_afterNodeRemoval_2 17 rfl rfl)
theorem q38 : (Jvm.Cond.initialized "java/util/LinkedHashMap") ∈ lw_all := lw_g (lw_at lw_m1 8 rfl) rfl
theorem q123 : (Jvm.Cond.instantiable "java/util/LinkedHashMap" (12 : Nat)) ∈ lw_all := lw_g (lw_at lw_m1 93 rfl) rfl
theorem q125 : (Jvm.Cond.instanceMethod ({ cls := "java/util/LinkedHashMap", name := "<init>", desc := "()V" } : Jvm.MethodName)) ∈ lw_all := lw_g (lw_at lw_m1 95 rfl) rfl
theorem q126 : (Jvm.Cond.code ({ cls := "java/util/LinkedHashMap", name := "<init>", desc := "()V" } : Jvm.MethodName) prog_49_method_16_code (1 : Nat) (Option.none : Option Jvm.ClassFile.FieldType)) ∈ lw_all := lw_g (lw_at lw_m1 96 rfl) rfl
theorem q127 : (Jvm.Cond.methodLink "java/util/LinkedHashMap" (87 : Nat) ({ cls := "java/util/HashMap", name := "<init>", desc := "()V" } : Jvm.MethodName)) ∈ lw_all := lw_g (lw_at lw_m1 97 rfl) rfl
theorem q135 : (Jvm.Cond.fieldLink "java/util/LinkedHashMap" (7 : Nat) "java/util/LinkedHashMap" "head" "Ljava/util/LinkedHashMap$Entry;") ∈ lw_all := lw_g (lw_at lw_m1 105 rfl) rfl
theorem q138 : (Jvm.Cond.fieldLink "java/util/LinkedHashMap" (11 : Nat) "java/util/LinkedHashMap" "tail" "Ljava/util/LinkedHashMap$Entry;") ∈ lw_all := lw_g (lw_at lw_m1 108 rfl) rfl
theorem q139 : (Jvm.Cond.fieldLink "java/util/LinkedHashMap" (64 : Nat) "java/util/LinkedHashMap" "accessOrder" "Z") ∈ lw_all := lw_g (lw_at lw_m1 109 rfl) rfl
theorem q140 : (Jvm.Cond.fieldLink "java/util/LinkedHashMap" (1 : Nat) "java/util/LinkedHashMap" "putMode" "I") ∈ lw_all := lw_g (lw_at lw_m1 110 rfl) rfl
theorem q144 : (Jvm.Cond.fieldLink "java/util/LinkedHashMap" (151 : Nat) "java/util/LinkedHashMap" "entrySet" "Ljava/util/Set;") ∈ lw_all := lw_g (lw_at lw_m1 114 rfl) rfl
theorem q145 : (Jvm.Cond.sameField "java/util/LinkedHashMap" "java/util/HashMap" "entrySet" "Ljava/util/Set;") ∈ lw_all := lw_g (lw_at lw_m1 115 rfl) rfl
theorem q150 : (Jvm.Cond.sameField "java/util/LinkedHashMap" "java/util/HashMap" "modCount" "I") ∈ lw_all := lw_g (lw_at lw_m1 120 rfl) rfl
theorem q151 : (Jvm.Cond.fieldLink "java/util/LinkedHashMap" (68 : Nat) "java/util/LinkedHashMap" "modCount" "I") ∈ lw_all := lw_g (lw_at lw_m1 121 rfl) rfl
theorem q157 : (Jvm.Cond.fieldLink "java/util/LinkedHashMap" (117 : Nat) "java/util/LinkedHashMap" "keySet" "Ljava/util/Set;") ∈ lw_all := lw_g (lw_at lw_m1 127 rfl) rfl
theorem q158 : (Jvm.Cond.sameField "java/util/LinkedHashMap" "java/util/AbstractMap" "keySet" "Ljava/util/Set;") ∈ lw_all := lw_g (lw_at lw_m1 128 rfl) rfl
theorem q159 : (Jvm.Cond.lays "java/util/LinkedHashMap" "java/util/LinkedHashMap" "head" "Ljava/util/LinkedHashMap$Entry;") ∈ lw_all := lw_g (lw_at lw_m1 129 rfl) rfl
theorem q160 : (Jvm.Cond.soleField "java/util/LinkedHashMap" "head") ∈ lw_all := lw_g (lw_at lw_m1 130 rfl) rfl
theorem q161 : (Jvm.Cond.lays "java/util/LinkedHashMap" "java/util/LinkedHashMap" "tail" "Ljava/util/LinkedHashMap$Entry;") ∈ lw_all := lw_g (lw_at lw_m1 131 rfl) rfl
theorem q162 : (Jvm.Cond.soleField "java/util/LinkedHashMap" "tail") ∈ lw_all := lw_g (lw_at lw_m1 132 rfl) rfl
theorem q163 : (Jvm.Cond.laysFinal "java/util/LinkedHashMap" "java/util/LinkedHashMap" "accessOrder" "Z") ∈ lw_all := lw_g (lw_at lw_m1 133 rfl) rfl
theorem q164 : (Jvm.Cond.soleField "java/util/LinkedHashMap" "accessOrder") ∈ lw_all := lw_g (lw_at lw_m1 134 rfl) rfl
theorem q165 : (Jvm.Cond.lays "java/util/LinkedHashMap" "java/util/LinkedHashMap" "putMode" "I") ∈ lw_all := lw_g (lw_at lw_m1 135 rfl) rfl
theorem q166 : (Jvm.Cond.soleField "java/util/LinkedHashMap" "putMode") ∈ lw_all := lw_g (lw_at lw_m1 136 rfl) rfl
theorem q167 : (Jvm.Cond.lays "java/util/LinkedHashMap" "java/util/HashMap" "table" "[Ljava/util/HashMap$Node;") ∈ lw_all := lw_g (lw_at lw_m1 137 rfl) rfl
theorem q169 : (Jvm.Cond.lays "java/util/LinkedHashMap" "java/util/HashMap" "entrySet" "Ljava/util/Set;") ∈ lw_all := lw_g (lw_at lw_m1 139 rfl) rfl
theorem q171 : (Jvm.Cond.lays "java/util/LinkedHashMap" "java/util/HashMap" "size" "I") ∈ lw_all := lw_g (lw_at lw_m1 141 rfl) rfl
theorem q173 : (Jvm.Cond.lays "java/util/LinkedHashMap" "java/util/HashMap" "modCount" "I") ∈ lw_all := lw_g (lw_at lw_m1 143 rfl) rfl
theorem q175 : (Jvm.Cond.lays "java/util/LinkedHashMap" "java/util/HashMap" "threshold" "I") ∈ lw_all := lw_g (lw_at lw_m1 145 rfl) rfl
theorem q177 : (Jvm.Cond.laysFinal "java/util/LinkedHashMap" "java/util/HashMap" "loadFactor" "F") ∈ lw_all := lw_g (lw_at lw_m1 147 rfl) rfl
theorem q179 : (Jvm.Cond.lays "java/util/LinkedHashMap" "java/util/AbstractMap" "keySet" "Ljava/util/Set;") ∈ lw_all := lw_g (lw_at lw_m1 149 rfl) rfl
theorem q181 : (Jvm.Cond.lays "java/util/LinkedHashMap" "java/util/AbstractMap" "values" "Ljava/util/Collection;") ∈ lw_all := lw_g (lw_at lw_m1 151 rfl) rfl
theorem q183 : (Jvm.Cond.superclass "java/util/LinkedHashMap" "java/util/HashMap") ∈ lw_all := lw_g (lw_at lw_m1 153 rfl) rfl
theorem q556 : (Jvm.Cond.selects "java/util/LinkedHashMap" ({ cls := "java/lang/Object", name := "getClass", desc := "()Ljava/lang/Class;" } : Jvm.MethodName) ({ cls := "java/lang/Object", name := "getClass", desc := "()Ljava/lang/Class;" } : Jvm.MethodName)) ∈ lw_all := lw_g (lw_at lw_m3 46 rfl) rfl
theorem q602 : (Jvm.Cond.castable "java/util/LinkedHashMap" "java/util/Map") ∈ lw_tbl := lw_at lw_m3 92 rfl
theorem q603 : (Jvm.Cond.selects "java/util/LinkedHashMap" ({ cls := "java/util/Map", name := "entrySet", desc := "()Ljava/util/Set;" } : Jvm.MethodName) ({ cls := "java/util/LinkedHashMap", name := "entrySet", desc := "()Ljava/util/Set;" } : Jvm.MethodName)) ∈ lw_all := lw_g (lw_at lw_m3 93 rfl) rfl
theorem q604 : (Jvm.Cond.unhidden "java/util/LinkedHashMap" "entrySet" "()Ljava/util/Set;") ∈ lw_tbl := lw_at lw_m3 94 rfl
theorem q605 : (Jvm.Cond.instanceMethod ({ cls := "java/util/LinkedHashMap", name := "entrySet", desc := "()Ljava/util/Set;" } : Jvm.MethodName)) ∈ lw_all := lw_g (lw_at lw_m3 95 rfl) rfl
theorem q606 : (Jvm.Cond.publicMethod ({ cls := "java/util/LinkedHashMap", name := "entrySet", desc := "()Ljava/util/Set;" } : Jvm.MethodName)) ∈ lw_tbl := lw_at lw_m3 96 rfl
theorem q607 : (Jvm.Cond.code ({ cls := "java/util/LinkedHashMap", name := "entrySet", desc := "()Ljava/util/Set;" } : Jvm.MethodName) prog_49_method_32_code (1 : Nat) (Option.some (Jvm.ClassFile.FieldType.object "java/util/Set"))) ∈ lw_all := lw_g (lw_at lw_m3 97 rfl) rfl
theorem q608 : (Jvm.Cond.methodLink "java/util/LinkedHashMap" (148 : Nat) ({ cls := "java/util/LinkedHashMap", name := "sequencedEntrySet", desc := "()Ljava/util/SequencedSet;" } : Jvm.MethodName)) ∈ lw_all := lw_g (lw_at lw_m3 98 rfl) rfl
theorem q609 : (Jvm.Cond.instanceMethod ({ cls := "java/util/LinkedHashMap", name := "sequencedEntrySet", desc := "()Ljava/util/SequencedSet;" } : Jvm.MethodName)) ∈ lw_all := lw_g (lw_at lw_m3 99 rfl) rfl
theorem q610 : (Jvm.Cond.selects "java/util/LinkedHashMap" ({ cls := "java/util/LinkedHashMap", name := "sequencedEntrySet", desc := "()Ljava/util/SequencedSet;" } : Jvm.MethodName) ({ cls := "java/util/LinkedHashMap", name := "sequencedEntrySet", desc := "()Ljava/util/SequencedSet;" } : Jvm.MethodName)) ∈ lw_all := lw_g (lw_at lw_m3 100 rfl) rfl
theorem q611 : (Jvm.Cond.code ({ cls := "java/util/LinkedHashMap", name := "sequencedEntrySet", desc := "()Ljava/util/SequencedSet;" } : Jvm.MethodName) prog_49_method_33_code (3 : Nat) (Option.some (Jvm.ClassFile.FieldType.object "java/util/SequencedSet"))) ∈ lw_all := lw_g (lw_at lw_m3 101 rfl) rfl
theorem q612 : (Jvm.Cond.classLink "java/util/LinkedHashMap" (154 : Nat) "java/util/LinkedHashMap$LinkedEntrySet") ∈ lw_all := lw_g (lw_at lw_m3 102 rfl) rfl
theorem q614 : (Jvm.Cond.methodLink "java/util/LinkedHashMap" (156 : Nat) ({ cls := "java/util/LinkedHashMap$LinkedEntrySet", name := "<init>", desc := "(Ljava/util/LinkedHashMap;Z)V" } : Jvm.MethodName)) ∈ lw_all := lw_g (lw_at lw_m3 104 rfl) rfl
theorem q625 : (Jvm.Cond.classLink "java/util/LinkedHashMap" (126 : Nat) "java/util/SequencedSet") ∈ lw_all := lw_g (lw_at lw_m3 115 rfl) rfl
theorem q689 : (Jvm.Cond.selects "java/util/LinkedHashMap" ({ cls := "java/util/HashMap", name := "keySet", desc := "()Ljava/util/Set;" } : Jvm.MethodName) ({ cls := "java/util/LinkedHashMap", name := "keySet", desc := "()Ljava/util/Set;" } : Jvm.MethodName)) ∈ lw_all := lw_g (lw_at lw_m3 179 rfl) rfl
theorem q690 : (Jvm.Cond.instanceMethod ({ cls := "java/util/LinkedHashMap", name := "keySet", desc := "()Ljava/util/Set;" } : Jvm.MethodName)) ∈ lw_all := lw_g (lw_at lw_m3 180 rfl) rfl
theorem q691 : (Jvm.Cond.code ({ cls := "java/util/LinkedHashMap", name := "keySet", desc := "()Ljava/util/Set;" } : Jvm.MethodName) prog_49_method_24_code (1 : Nat) (Option.some (Jvm.ClassFile.FieldType.object "java/util/Set"))) ∈ lw_all := lw_g (lw_at lw_m3 181 rfl) rfl
theorem q692 : (Jvm.Cond.methodLink "java/util/LinkedHashMap" (113 : Nat) ({ cls := "java/util/LinkedHashMap", name := "sequencedKeySet", desc := "()Ljava/util/SequencedSet;" } : Jvm.MethodName)) ∈ lw_all := lw_g (lw_at lw_m3 182 rfl) rfl
theorem q693 : (Jvm.Cond.instanceMethod ({ cls := "java/util/LinkedHashMap", name := "sequencedKeySet", desc := "()Ljava/util/SequencedSet;" } : Jvm.MethodName)) ∈ lw_all := lw_g (lw_at lw_m3 183 rfl) rfl
theorem q694 : (Jvm.Cond.selects "java/util/LinkedHashMap" ({ cls := "java/util/LinkedHashMap", name := "sequencedKeySet", desc := "()Ljava/util/SequencedSet;" } : Jvm.MethodName) ({ cls := "java/util/LinkedHashMap", name := "sequencedKeySet", desc := "()Ljava/util/SequencedSet;" } : Jvm.MethodName)) ∈ lw_all := lw_g (lw_at lw_m3 184 rfl) rfl
theorem q695 : (Jvm.Cond.code ({ cls := "java/util/LinkedHashMap", name := "sequencedKeySet", desc := "()Ljava/util/SequencedSet;" } : Jvm.MethodName) prog_49_method_25_code (3 : Nat) (Option.some (Jvm.ClassFile.FieldType.object "java/util/SequencedSet"))) ∈ lw_all := lw_g (lw_at lw_m3 185 rfl) rfl
theorem q696 : (Jvm.Cond.classLink "java/util/LinkedHashMap" (121 : Nat) "java/util/LinkedHashMap$LinkedKeySet") ∈ lw_all := lw_g (lw_at lw_m3 186 rfl) rfl
theorem q698 : (Jvm.Cond.methodLink "java/util/LinkedHashMap" (123 : Nat) ({ cls := "java/util/LinkedHashMap$LinkedKeySet", name := "<init>", desc := "(Ljava/util/LinkedHashMap;Z)V" } : Jvm.MethodName)) ∈ lw_all := lw_g (lw_at lw_m3 188 rfl) rfl
theorem q907 : (Jvm.Cond.selects "java/util/LinkedHashMap" ({ cls := "java/util/HashMap", name := "putVal", desc := "(ILjava/lang/Object;Ljava/lang/Object;ZZ)Ljava/lang/Object;" } : Jvm.MethodName) ({ cls := "java/util/HashMap", name := "putVal", desc := "(ILjava/lang/Object;Ljava/lang/Object;ZZ)Ljava/lang/Object;" } : Jvm.MethodName)) ∈ lw_all := lw_g (lw_at lw_m4 157 rfl) rfl
theorem q913 : (Jvm.Cond.selects "java/util/LinkedHashMap" ({ cls := "java/util/HashMap", name := "resize", desc := "()[Ljava/util/HashMap$Node;" } : Jvm.MethodName) ({ cls := "java/util/HashMap", name := "resize", desc := "()[Ljava/util/HashMap$Node;" } : Jvm.MethodName)) ∈ lw_all := lw_g (lw_at lw_m4 163 rfl) rfl
theorem q934 : (Jvm.Cond.selects "java/util/LinkedHashMap" ({ cls := "java/util/HashMap", name := "replacementNode", desc := "(Ljava/util/HashMap$Node;Ljava/util/HashMap$Node;)Ljava/util/HashMap$Node;" } : Jvm.MethodName) ({ cls := "java/util/LinkedHashMap", name := "replacementNode", desc := "(Ljava/util/HashMap$Node;Ljava/util/HashMap$Node;)Ljava/util/HashMap$Node;" } : Jvm.MethodName)) ∈ lw_all := lw_g (lw_at lw_m4 184 rfl) rfl
theorem q935 : (Jvm.Cond.instanceMethod ({ cls := "java/util/LinkedHashMap", name := "replacementNode", desc := "(Ljava/util/HashMap$Node;Ljava/util/HashMap$Node;)Ljava/util/HashMap$Node;" } : Jvm.MethodName)) ∈ lw_all := lw_g (lw_at lw_m4 185 rfl) rfl
theorem q936 : (Jvm.Cond.code ({ cls := "java/util/LinkedHashMap", name := "replacementNode", desc := "(Ljava/util/HashMap$Node;Ljava/util/HashMap$Node;)Ljava/util/HashMap$Node;" } : Jvm.MethodName) prog_49_method_5_code (5 : Nat) (Option.some (Jvm.ClassFile.FieldType.object "java/util/HashMap$Node"))) ∈ lw_all := lw_g (lw_at lw_m4 186 rfl) rfl
theorem q937 : (Jvm.Cond.classLink "java/util/LinkedHashMap" (15 : Nat) "java/util/LinkedHashMap$Entry") ∈ lw_all := lw_g (lw_at lw_m4 187 rfl) rfl
theorem q939 : (Jvm.Cond.methodLink "java/util/LinkedHashMap" (28 : Nat) ({ cls := "java/util/LinkedHashMap$Entry", name := "<init>", desc := "(ILjava/lang/Object;Ljava/lang/Object;Ljava/util/HashMap$Node;)V" } : Jvm.MethodName)) ∈ lw_all := lw_g (lw_at lw_m4 189 rfl) rfl
theorem q946 : (Jvm.Cond.fieldLink "java/util/LinkedHashMap" (19 : Nat) "java/util/LinkedHashMap$Entry" "before" "Ljava/util/LinkedHashMap$Entry;") ∈ lw_all := lw_g (lw_at lw_m4 196 rfl) rfl
theorem q948 : (Jvm.Cond.fieldLink "java/util/LinkedHashMap" (14 : Nat) "java/util/LinkedHashMap$Entry" "after" "Ljava/util/LinkedHashMap$Entry;") ∈ lw_all := lw_g (lw_at lw_m4 198 rfl) rfl
theorem q953 : (Jvm.Cond.fieldLink "java/util/LinkedHashMap" (36 : Nat) "java/util/LinkedHashMap$Entry" "hash" "I") ∈ lw_all := lw_g (lw_at lw_m4 203 rfl) rfl
theorem q960 : (Jvm.Cond.fieldLink "java/util/LinkedHashMap" (39 : Nat) "java/util/LinkedHashMap$Entry" "key" "Ljava/lang/Object;") ∈ lw_all := lw_g (lw_at lw_m4 210 rfl) rfl
theorem q964 : (Jvm.Cond.fieldLink "java/util/LinkedHashMap" (43 : Nat) "java/util/LinkedHashMap$Entry" "value" "Ljava/lang/Object;") ∈ lw_all := lw_g (lw_at lw_m4 214 rfl) rfl
theorem q967 : (Jvm.Cond.fieldLink "java/util/LinkedHashMap" (107 : Nat) "java/util/HashMap$Node" "value" "Ljava/lang/Object;") ∈ lw_all := lw_g (lw_at lw_m4 217 rfl) rfl
theorem q988 : (Jvm.Cond.methodLink "java/util/LinkedHashMap" (46 : Nat) ({ cls := "java/util/LinkedHashMap", name := "transferLinks", desc := "(Ljava/util/LinkedHashMap$Entry;Ljava/util/LinkedHashMap$Entry;)V" } : Jvm.MethodName)) ∈ lw_all := lw_g (lw_at lw_m4 238 rfl) rfl
theorem q989 : (Jvm.Cond.privateMethod ({ cls := "java/util/LinkedHashMap", name := "transferLinks", desc := "(Ljava/util/LinkedHashMap$Entry;Ljava/util/LinkedHashMap$Entry;)V" } : Jvm.MethodName)) ∈ lw_tbl := lw_at lw_m4 239 rfl
theorem q990 : (Jvm.Cond.instanceMethod ({ cls := "java/util/LinkedHashMap", name := "transferLinks", desc := "(Ljava/util/LinkedHashMap$Entry;Ljava/util/LinkedHashMap$Entry;)V" } : Jvm.MethodName)) ∈ lw_all := lw_g (lw_at lw_m5 0 rfl) rfl
theorem q991 : (Jvm.Cond.code ({ cls := "java/util/LinkedHashMap", name := "transferLinks", desc := "(Ljava/util/LinkedHashMap$Entry;Ljava/util/LinkedHashMap$Entry;)V" } : Jvm.MethodName) prog_49_method_2_code (5 : Nat) (Option.none : Option Jvm.ClassFile.FieldType)) ∈ lw_all := lw_g (lw_at lw_m5 1 rfl) rfl
theorem q1242 : (Jvm.Cond.selects "java/util/LinkedHashMap" ({ cls := "java/util/HashMap", name := "newNode", desc := "(ILjava/lang/Object;Ljava/lang/Object;Ljava/util/HashMap$Node;)Ljava/util/HashMap$Node;" } : Jvm.MethodName) ({ cls := "java/util/LinkedHashMap", name := "newNode", desc := "(ILjava/lang/Object;Ljava/lang/Object;Ljava/util/HashMap$Node;)Ljava/util/HashMap$Node;" } : Jvm.MethodName)) ∈ lw_all := lw_g (lw_at lw_m6 12 rfl) rfl
theorem q1243 : (Jvm.Cond.instanceMethod ({ cls := "java/util/LinkedHashMap", name := "newNode", desc := "(ILjava/lang/Object;Ljava/lang/Object;Ljava/util/HashMap$Node;)Ljava/util/HashMap$Node;" } : Jvm.MethodName)) ∈ lw_all := lw_g (lw_at lw_m6 13 rfl) rfl
theorem q1244 : (Jvm.Cond.code ({ cls := "java/util/LinkedHashMap", name := "newNode", desc := "(ILjava/lang/Object;Ljava/lang/Object;Ljava/util/HashMap$Node;)Ljava/util/HashMap$Node;" } : Jvm.MethodName) prog_49_method_4_code (6 : Nat) (Option.some (Jvm.ClassFile.FieldType.object "java/util/HashMap$Node"))) ∈ lw_all := lw_g (lw_at lw_m6 14 rfl) rfl
theorem q1245 : (Jvm.Cond.methodLink "java/util/LinkedHashMap" (32 : Nat) ({ cls := "java/util/LinkedHashMap", name := "linkNodeAtEnd", desc := "(Ljava/util/LinkedHashMap$Entry;)V" } : Jvm.MethodName)) ∈ lw_all := lw_g (lw_at lw_m6 15 rfl) rfl
theorem q1246 : (Jvm.Cond.privateMethod ({ cls := "java/util/LinkedHashMap", name := "linkNodeAtEnd", desc := "(Ljava/util/LinkedHashMap$Entry;)V" } : Jvm.MethodName)) ∈ lw_tbl := lw_at lw_m6 16 rfl
theorem q1247 : (Jvm.Cond.instanceMethod ({ cls := "java/util/LinkedHashMap", name := "linkNodeAtEnd", desc := "(Ljava/util/LinkedHashMap$Entry;)V" } : Jvm.MethodName)) ∈ lw_all := lw_g (lw_at lw_m6 17 rfl) rfl
theorem q1248 : (Jvm.Cond.code ({ cls := "java/util/LinkedHashMap", name := "linkNodeAtEnd", desc := "(Ljava/util/LinkedHashMap$Entry;)V" } : Jvm.MethodName) prog_49_method_1_code (3 : Nat) (Option.none : Option Jvm.ClassFile.FieldType)) ∈ lw_all := lw_g (lw_at lw_m6 18 rfl) rfl
theorem q1300 : (Jvm.Cond.selects "java/util/LinkedHashMap" ({ cls := "java/util/HashMap", name := "newTreeNode", desc := "(ILjava/lang/Object;Ljava/lang/Object;Ljava/util/HashMap$Node;)Ljava/util/HashMap$TreeNode;" } : Jvm.MethodName) ({ cls := "java/util/LinkedHashMap", name := "newTreeNode", desc := "(ILjava/lang/Object;Ljava/lang/Object;Ljava/util/HashMap$Node;)Ljava/util/HashMap$TreeNode;" } : Jvm.MethodName)) ∈ lw_all := lw_g (lw_at lw_m6 70 rfl) rfl
theorem q1301 : (Jvm.Cond.instanceMethod ({ cls := "java/util/LinkedHashMap", name := "newTreeNode", desc := "(ILjava/lang/Object;Ljava/lang/Object;Ljava/util/HashMap$Node;)Ljava/util/HashMap$TreeNode;" } : Jvm.MethodName)) ∈ lw_all := lw_g (lw_at lw_m6 71 rfl) rfl
theorem q1302 : (Jvm.Cond.code ({ cls := "java/util/LinkedHashMap", name := "newTreeNode", desc := "(ILjava/lang/Object;Ljava/lang/Object;Ljava/util/HashMap$Node;)Ljava/util/HashMap$TreeNode;" } : Jvm.MethodName) prog_49_method_6_code (6 : Nat) (Option.some (Jvm.ClassFile.FieldType.object "java/util/HashMap$TreeNode"))) ∈ lw_all := lw_g (lw_at lw_m6 72 rfl) rfl
theorem q1303 : (Jvm.Cond.classLink "java/util/LinkedHashMap" (50 : Nat) "java/util/HashMap$TreeNode") ∈ lw_all := lw_g (lw_at lw_m6 73 rfl) rfl
theorem q1305 : (Jvm.Cond.methodLink "java/util/LinkedHashMap" (52 : Nat) ({ cls := "java/util/HashMap$TreeNode", name := "<init>", desc := "(ILjava/lang/Object;Ljava/lang/Object;Ljava/util/HashMap$Node;)V" } : Jvm.MethodName)) ∈ lw_all := lw_g (lw_at lw_m6 75 rfl) rfl
theorem q1338 : (Jvm.Cond.selects "java/util/LinkedHashMap" ({ cls := "java/util/HashMap", name := "treeifyBin", desc := "([Ljava/util/HashMap$Node;I)V" } : Jvm.MethodName) ({ cls := "java/util/HashMap", name := "treeifyBin", desc := "([Ljava/util/HashMap$Node;I)V" } : Jvm.MethodName)) ∈ lw_all := lw_g (lw_at lw_m6 108 rfl) rfl
theorem q1344 : (Jvm.Cond.selects "java/util/LinkedHashMap" ({ cls := "java/util/HashMap", name := "replacementTreeNode", desc := "(Ljava/util/HashMap$Node;Ljava/util/HashMap$Node;)Ljava/util/HashMap$TreeNode;" } : Jvm.MethodName) ({ cls := "java/util/LinkedHashMap", name := "replacementTreeNode", desc := "(Ljava/util/HashMap$Node;Ljava/util/HashMap$Node;)Ljava/util/HashMap$TreeNode;" } : Jvm.MethodName)) ∈ lw_all := lw_g (lw_at lw_m6 114 rfl) rfl
theorem q1345 : (Jvm.Cond.instanceMethod ({ cls := "java/util/LinkedHashMap", name := "replacementTreeNode", desc := "(Ljava/util/HashMap$Node;Ljava/util/HashMap$Node;)Ljava/util/HashMap$TreeNode;" } : Jvm.MethodName)) ∈ lw_all := lw_g (lw_at lw_m6 115 rfl) rfl
theorem q1346 : (Jvm.Cond.code ({ cls := "java/util/LinkedHashMap", name := "replacementTreeNode", desc := "(Ljava/util/HashMap$Node;Ljava/util/HashMap$Node;)Ljava/util/HashMap$TreeNode;" } : Jvm.MethodName) prog_49_method_7_code (5 : Nat) (Option.some (Jvm.ClassFile.FieldType.object "java/util/HashMap$TreeNode"))) ∈ lw_all := lw_g (lw_at lw_m6 116 rfl) rfl
theorem q1353 : (Jvm.Cond.selects "java/util/LinkedHashMap" ({ cls := "java/util/HashMap", name := "afterNodeAccess", desc := "(Ljava/util/HashMap$Node;)V" } : Jvm.MethodName) ({ cls := "java/util/LinkedHashMap", name := "afterNodeAccess", desc := "(Ljava/util/HashMap$Node;)V" } : Jvm.MethodName)) ∈ lw_all := lw_g (lw_at lw_m6 123 rfl) rfl
theorem q1354 : (Jvm.Cond.instanceMethod ({ cls := "java/util/LinkedHashMap", name := "afterNodeAccess", desc := "(Ljava/util/HashMap$Node;)V" } : Jvm.MethodName)) ∈ lw_all := lw_g (lw_at lw_m6 124 rfl) rfl
theorem q1355 : (Jvm.Cond.code ({ cls := "java/util/LinkedHashMap", name := "afterNodeAccess", desc := "(Ljava/util/HashMap$Node;)V" } : Jvm.MethodName) prog_49_method_10_code (7 : Nat) (Option.none : Option Jvm.ClassFile.FieldType)) ∈ lw_all := lw_g (lw_at lw_m6 125 rfl) rfl
theorem q1361 : (Jvm.Cond.selects "java/util/LinkedHashMap" ({ cls := "java/util/HashMap", name := "afterNodeInsertion", desc := "(Z)V" } : Jvm.MethodName) ({ cls := "java/util/LinkedHashMap", name := "afterNodeInsertion", desc := "(Z)V" } : Jvm.MethodName)) ∈ lw_all := lw_g (lw_at lw_m6 131 rfl) rfl
theorem q1362 : (Jvm.Cond.instanceMethod ({ cls := "java/util/LinkedHashMap", name := "afterNodeInsertion", desc := "(Z)V" } : Jvm.MethodName)) ∈ lw_all := lw_g (lw_at lw_m6 132 rfl) rfl
theorem q1363 : (Jvm.Cond.code ({ cls := "java/util/LinkedHashMap", name := "afterNodeInsertion", desc := "(Z)V" } : Jvm.MethodName) prog_49_method_9_code (4 : Nat) (Option.none : Option Jvm.ClassFile.FieldType)) ∈ lw_all := lw_g (lw_at lw_m6 133 rfl) rfl
theorem q1364 : (Jvm.Cond.methodLink "java/util/LinkedHashMap" (53 : Nat) ({ cls := "java/util/LinkedHashMap", name := "removeEldestEntry", desc := "(Ljava/util/Map$Entry;)Z" } : Jvm.MethodName)) ∈ lw_all := lw_g (lw_at lw_m6 134 rfl) rfl
theorem q1365 : (Jvm.Cond.instanceMethod ({ cls := "java/util/LinkedHashMap", name := "removeEldestEntry", desc := "(Ljava/util/Map$Entry;)Z" } : Jvm.MethodName)) ∈ lw_all := lw_g (lw_at lw_m6 135 rfl) rfl
theorem q1366 : (Jvm.Cond.selects "java/util/LinkedHashMap" ({ cls := "java/util/LinkedHashMap", name := "removeEldestEntry", desc := "(Ljava/util/Map$Entry;)Z" } : Jvm.MethodName) ({ cls := "java/util/LinkedHashMap", name := "removeEldestEntry", desc := "(Ljava/util/Map$Entry;)Z" } : Jvm.MethodName)) ∈ lw_all := lw_g (lw_at lw_m6 136 rfl) rfl
theorem q1367 : (Jvm.Cond.code ({ cls := "java/util/LinkedHashMap", name := "removeEldestEntry", desc := "(Ljava/util/Map$Entry;)Z" } : Jvm.MethodName) prog_49_method_23_code (2 : Nat) (Option.some Jvm.ClassFile.FieldType.boolean)) ∈ lw_all := lw_g (lw_at lw_m6 137 rfl) rfl
theorem q1369 : (Jvm.Cond.selects "java/util/LinkedHashMap" ({ cls := "java/util/Map", name := "put", desc := "(Ljava/lang/Object;Ljava/lang/Object;)Ljava/lang/Object;" } : Jvm.MethodName) ({ cls := "java/util/HashMap", name := "put", desc := "(Ljava/lang/Object;Ljava/lang/Object;)Ljava/lang/Object;" } : Jvm.MethodName)) ∈ lw_all := lw_g (lw_at lw_m6 139 rfl) rfl
theorem q1370 : (Jvm.Cond.unhidden "java/util/LinkedHashMap" "put" "(Ljava/lang/Object;Ljava/lang/Object;)Ljava/lang/Object;") ∈ lw_tbl := lw_at lw_m6 140 rfl
theorem q1480 : (Jvm.Cond.selects "java/util/LinkedHashMap" ({ cls := "java/util/HashMap", name := "getNode", desc := "(Ljava/lang/Object;)Ljava/util/HashMap$Node;" } : Jvm.MethodName) ({ cls := "java/util/HashMap", name := "getNode", desc := "(Ljava/lang/Object;)Ljava/util/HashMap$Node;" } : Jvm.MethodName)) ∈ lw_all := lw_g (lw_at lw_m7 10 rfl) rfl
theorem q1486 : (Jvm.Cond.selects "java/util/LinkedHashMap" ({ cls := "java/util/Map", name := "get", desc := "(Ljava/lang/Object;)Ljava/lang/Object;" } : Jvm.MethodName) ({ cls := "java/util/LinkedHashMap", name := "get", desc := "(Ljava/lang/Object;)Ljava/lang/Object;" } : Jvm.MethodName)) ∈ lw_all := lw_g (lw_at lw_m7 16 rfl) rfl
theorem q1487 : (Jvm.Cond.unhidden "java/util/LinkedHashMap" "get" "(Ljava/lang/Object;)Ljava/lang/Object;") ∈ lw_tbl := lw_at lw_m7 17 rfl
theorem q1488 : (Jvm.Cond.instanceMethod ({ cls := "java/util/LinkedHashMap", name := "get", desc := "(Ljava/lang/Object;)Ljava/lang/Object;" } : Jvm.MethodName)) ∈ lw_all := lw_g (lw_at lw_m7 18 rfl) rfl
theorem q1489 : (Jvm.Cond.publicMethod ({ cls := "java/util/LinkedHashMap", name := "get", desc := "(Ljava/lang/Object;)Ljava/lang/Object;" } : Jvm.MethodName)) ∈ lw_tbl := lw_at lw_m7 19 rfl
theorem q1490 : (Jvm.Cond.code ({ cls := "java/util/LinkedHashMap", name := "get", desc := "(Ljava/lang/Object;)Ljava/lang/Object;" } : Jvm.MethodName) prog_49_method_20_code (3 : Nat) (Option.some (Jvm.ClassFile.FieldType.object "java/lang/Object"))) ∈ lw_all := lw_g (lw_at lw_m7 20 rfl) rfl
theorem q1491 : (Jvm.Cond.methodLink "java/util/LinkedHashMap" (99 : Nat) ({ cls := "java/util/LinkedHashMap", name := "getNode", desc := "(Ljava/lang/Object;)Ljava/util/HashMap$Node;" } : Jvm.MethodName)) ∈ lw_all := lw_g (lw_at lw_m7 21 rfl) rfl
theorem q1492 : (Jvm.Cond.sameMethod "java/util/LinkedHashMap" "java/util/HashMap" "getNode" "(Ljava/lang/Object;)Ljava/util/HashMap$Node;") ∈ lw_all := lw_g (lw_at lw_m7 22 rfl) rfl
theorem q1494 : (Jvm.Cond.selects "java/util/LinkedHashMap" ({ cls := "java/util/LinkedHashMap", name := "getNode", desc := "(Ljava/lang/Object;)Ljava/util/HashMap$Node;" } : Jvm.MethodName) ({ cls := "java/util/HashMap", name := "getNode", desc := "(Ljava/lang/Object;)Ljava/util/HashMap$Node;" } : Jvm.MethodName)) ∈ lw_all := lw_g (lw_at lw_m7 24 rfl) rfl
theorem q1495 : (Jvm.Cond.methodLink "java/util/LinkedHashMap" (103 : Nat) ({ cls := "java/util/LinkedHashMap", name := "afterNodeAccess", desc := "(Ljava/util/HashMap$Node;)V" } : Jvm.MethodName)) ∈ lw_all := lw_g (lw_at lw_m7 25 rfl) rfl
theorem q1514 : (Jvm.Cond.selects "java/util/LinkedHashMap" ({ cls := "java/util/HashMap", name := "removeNode", desc := "(ILjava/lang/Object;Ljava/lang/Object;ZZ)Ljava/util/HashMap$Node;" } : Jvm.MethodName) ({ cls := "java/util/HashMap", name := "removeNode", desc := "(ILjava/lang/Object;Ljava/lang/Object;ZZ)Ljava/util/HashMap$Node;" } : Jvm.MethodName)) ∈ lw_all := lw_g (lw_at lw_m7 44 rfl) rfl
theorem q1527 : (Jvm.Cond.selects "java/util/LinkedHashMap" ({ cls := "java/util/HashMap", name := "afterNodeRemoval", desc := "(Ljava/util/HashMap$Node;)V" } : Jvm.MethodName) ({ cls := "java/util/LinkedHashMap", name := "afterNodeRemoval", desc := "(Ljava/util/HashMap$Node;)V" } : Jvm.MethodName)) ∈ lw_all := lw_g (lw_at lw_m7 57 rfl) rfl
theorem q1528 : (Jvm.Cond.instanceMethod ({ cls := "java/util/LinkedHashMap", name := "afterNodeRemoval", desc := "(Ljava/util/HashMap$Node;)V" } : Jvm.MethodName)) ∈ lw_all := lw_g (lw_at lw_m7 58 rfl) rfl
theorem q1529 : (Jvm.Cond.code ({ cls := "java/util/LinkedHashMap", name := "afterNodeRemoval", desc := "(Ljava/util/HashMap$Node;)V" } : Jvm.MethodName) prog_49_method_8_code (5 : Nat) (Option.none : Option Jvm.ClassFile.FieldType)) ∈ lw_all := lw_g (lw_at lw_m7 59 rfl) rfl
theorem q1531 : (Jvm.Cond.selects "java/util/LinkedHashMap" ({ cls := "java/util/Map", name := "remove", desc := "(Ljava/lang/Object;)Ljava/lang/Object;" } : Jvm.MethodName) ({ cls := "java/util/HashMap", name := "remove", desc := "(Ljava/lang/Object;)Ljava/lang/Object;" } : Jvm.MethodName)) ∈ lw_all := lw_g (lw_at lw_m7 61 rfl) rfl
theorem q1532 : (Jvm.Cond.unhidden "java/util/LinkedHashMap" "remove" "(Ljava/lang/Object;)Ljava/lang/Object;") ∈ lw_tbl := lw_at lw_m7 62 rfl
theorem q1683 : (Jvm.Cond.selects "java/util/LinkedHashMap" ({ cls := "java/util/HashMap", name := "containsKey", desc := "(Ljava/lang/Object;)Z" } : Jvm.MethodName) ({ cls := "java/util/HashMap", name := "containsKey", desc := "(Ljava/lang/Object;)Z" } : Jvm.MethodName)) ∈ lw_all := lw_g (lw_at lw_m7 213 rfl) rfl
theorem q1984 : (Jvm.Cond.selects "java/util/LinkedHashMap" ({ cls := "java/util/Map", name := "keySet", desc := "()Ljava/util/Set;" } : Jvm.MethodName) ({ cls := "java/util/LinkedHashMap", name := "keySet", desc := "()Ljava/util/Set;" } : Jvm.MethodName)) ∈ lw_all := lw_g (lw_at lw_m9 34 rfl) rfl
theorem q1985 : (Jvm.Cond.unhidden "java/util/LinkedHashMap" "keySet" "()Ljava/util/Set;") ∈ lw_tbl := lw_at lw_m9 35 rfl
theorem q1986 : (Jvm.Cond.publicMethod ({ cls := "java/util/LinkedHashMap", name := "keySet", desc := "()Ljava/util/Set;" } : Jvm.MethodName)) ∈ lw_tbl := lw_at lw_m9 36 rfl
theorem q2118 : (Jvm.Cond.selects "java/util/LinkedHashMap" ({ cls := "java/util/Map", name := "containsKey", desc := "(Ljava/lang/Object;)Z" } : Jvm.MethodName) ({ cls := "java/util/HashMap", name := "containsKey", desc := "(Ljava/lang/Object;)Z" } : Jvm.MethodName)) ∈ lw_all := lw_g (lw_at lw_m9 168 rfl) rfl
theorem q2119 : (Jvm.Cond.unhidden "java/util/LinkedHashMap" "containsKey" "(Ljava/lang/Object;)Z") ∈ lw_tbl := lw_at lw_m9 169 rfl
theorem q2391 : (Jvm.Cond.selects "java/util/LinkedHashMap" ({ cls := "java/util/LinkedHashMap", name := "afterNodeAccess", desc := "(Ljava/util/HashMap$Node;)V" } : Jvm.MethodName) ({ cls := "java/util/LinkedHashMap", name := "afterNodeAccess", desc := "(Ljava/util/HashMap$Node;)V" } : Jvm.MethodName)) ∈ lw_all := lw_g (lw_at lw_m10 201 rfl) rfl
theorem q2400 : (Jvm.Cond.selects "java/util/LinkedHashMap" ({ cls := "java/util/HashMap", name := "put", desc := "(Ljava/lang/Object;Ljava/lang/Object;)Ljava/lang/Object;" } : Jvm.MethodName) ({ cls := "java/util/HashMap", name := "put", desc := "(Ljava/lang/Object;Ljava/lang/Object;)Ljava/lang/Object;" } : Jvm.MethodName)) ∈ lw_all := lw_g (lw_at lw_m10 210 rfl) rfl
theorem q2414 : (Jvm.Cond.castable "java/util/LinkedHashMap" "java/lang/Object") ∈ lw_tbl := lw_at lw_m10 224 rfl
theorem in_J5 : ∀ w ∈ wsJ50, w ∈ lw_all := lw_in wsJ50 [179, 181, 167, 169, 171, 173, 175, 177, 159, 161, 163, 165] (by decide +kernel) (by decide +kernel)
/-! java/lang/AbstractStringBuilder -/
set_option maxRecDepth 100000
def RJ6 : String := "java/lang/AbstractStringBuilder"
abbrev cJ6_init : ByteArray := prog_12_method_2_code
def yJ6_init : MethodName := ⟨RJ6, "<init>", "(I)V"⟩
def dkwJ6_init_1 : List UInt8 := [167, 0, 16, 42, 27, 184, 0, 26, 181, 0, 15, 42, 4, 181, 0, 22, 177]
abbrev dktJ6_init_1 : List UInt8 := dkwJ6_init_1 ++ []
def dkwJ6_init_0 : List UInt8 := [42, 183, 0, 3, 178, 0, 18, 153, 0, 18, 42, 27, 188, 8, 181, 0, 15, 42, 3, 181, 0, 22]
abbrev dktJ6_init_0 : List UInt8 := dkwJ6_init_0 ++ dktJ6_init_1
theorem dksJ6_init_0 : cJ6_init.data.toList.drop 0 = dktJ6_init_0 := by decide +kernel
theorem dksJ6_init_1 : cJ6_init.data.toList.drop 22 = dktJ6_init_1 := dk_seg dksJ6_init_0 22 rfl rfl
theorem dJ6_init_0 : decode cJ6_init 0 = .ok (.aload_n 0, 1) := dk_42 (dk_at dksJ6_init_0 0 rfl rfl)
theorem dJ6_init_1 : decode cJ6_init 1 = .ok (.invokespecial 3, 3) := dk_183 0 3 (dk_at dksJ6_init_0 1 rfl rfl)
theorem dJ6_init_4 : decode cJ6_init 4 = .ok (.getstatic 18, 3) := dk_178 0 18 (dk_at dksJ6_init_0 4 rfl rfl)
theorem dJ6_init_7 : decode cJ6_init 7 = .ok (.ifCond .eq 18, 3) := dk_153 0 18 (dk_at dksJ6_init_0 7 rfl rfl)
theorem dJ6_init_10 : decode cJ6_init 10 = .ok (.aload_n 0, 1) := dk_42 (dk_at dksJ6_init_0 10 rfl rfl)
theorem dJ6_init_11 : decode cJ6_init 11 = .ok (.iload_n 1, 1) := dk_27 (dk_at dksJ6_init_0 11 rfl rfl)
theorem dJ6_init_12 : decode cJ6_init 12 = .ok (.newarray .byte, 2) := dk_188_8 (dk_at dksJ6_init_0 12 rfl rfl)
theorem dJ6_init_14 : decode cJ6_init 14 = .ok (.putfield 15, 3) := dk_181 0 15 (dk_at dksJ6_init_0 14 rfl rfl)
theorem dJ6_init_17 : decode cJ6_init 17 = .ok (.aload_n 0, 1) := dk_42 (dk_at dksJ6_init_0 17 rfl rfl)
theorem dJ6_init_18 : decode cJ6_init 18 = .ok (.iconst 0, 1) := dk_3 (dk_at dksJ6_init_0 18 rfl rfl)
theorem dJ6_init_19 : decode cJ6_init 19 = .ok (.putfield 22, 3) := dk_181 0 22 (dk_at dksJ6_init_0 19 rfl rfl)
theorem dJ6_init_22 : decode cJ6_init 22 = .ok (.goto 16, 3) := dk_167 0 16 (dk_at dksJ6_init_1 0 rfl rfl)
theorem dJ6_init_25 : decode cJ6_init 25 = .ok (.aload_n 0, 1) := dk_42 (dk_at dksJ6_init_1 3 rfl rfl)
theorem dJ6_init_26 : decode cJ6_init 26 = .ok (.iload_n 1, 1) := dk_27 (dk_at dksJ6_init_1 4 rfl rfl)
theorem dJ6_init_27 : decode cJ6_init 27 = .ok (.invokestatic 26, 3) := dk_184 0 26 (dk_at dksJ6_init_1 5 rfl rfl)
theorem dJ6_init_30 : decode cJ6_init 30 = .ok (.putfield 15, 3) := dk_181 0 15 (dk_at dksJ6_init_1 8 rfl rfl)
theorem dJ6_init_33 : decode cJ6_init 33 = .ok (.aload_n 0, 1) := dk_42 (dk_at dksJ6_init_1 11 rfl rfl)
theorem dJ6_init_34 : decode cJ6_init 34 = .ok (.iconst 1, 1) := dk_4 (dk_at dksJ6_init_1 12 rfl rfl)
theorem dJ6_init_35 : decode cJ6_init 35 = .ok (.putfield 22, 3) := dk_181 0 22 (dk_at dksJ6_init_1 13 rfl rfl)
theorem dJ6_init_38 : decode cJ6_init 38 = .ok (.return_, 1) := dk_177 (dk_at dksJ6_init_1 16 rfl rfl)
abbrev cJ6_compareTo : ByteArray := prog_12_method_5_code
def yJ6_compareTo : MethodName := ⟨RJ6, "compareTo", "(Ljava/lang/AbstractStringBuilder;)I"⟩
abbrev cJ6_isLatin1 : ByteArray := prog_12_method_68_code
def yJ6_isLatin1 : MethodName := ⟨RJ6, "isLatin1", "()Z"⟩
def dkwJ6_isLatin1_0 : List UInt8 := [178, 0, 18, 153, 0, 14, 42, 180, 0, 22, 154, 0, 7, 4, 167, 0, 4, 3, 172]
abbrev dktJ6_isLatin1_0 : List UInt8 := dkwJ6_isLatin1_0 ++ []
theorem dksJ6_isLatin1_0 : cJ6_isLatin1.data.toList.drop 0 = dktJ6_isLatin1_0 := by decide +kernel
theorem dJ6_isLatin1_0 : decode cJ6_isLatin1 0 = .ok (.getstatic 18, 3) := dk_178 0 18 (dk_at dksJ6_isLatin1_0 0 rfl rfl)
theorem dJ6_isLatin1_3 : decode cJ6_isLatin1 3 = .ok (.ifCond .eq 14, 3) := dk_153 0 14 (dk_at dksJ6_isLatin1_0 3 rfl rfl)
theorem dJ6_isLatin1_6 : decode cJ6_isLatin1 6 = .ok (.aload_n 0, 1) := dk_42 (dk_at dksJ6_isLatin1_0 6 rfl rfl)
theorem dJ6_isLatin1_7 : decode cJ6_isLatin1 7 = .ok (.getfield 22, 3) := dk_180 0 22 (dk_at dksJ6_isLatin1_0 7 rfl rfl)
theorem dJ6_isLatin1_10 : decode cJ6_isLatin1 10 = .ok (.ifCond .ne 7, 3) := dk_154 0 7 (dk_at dksJ6_isLatin1_0 10 rfl rfl)
theorem dJ6_isLatin1_13 : decode cJ6_isLatin1 13 = .ok (.iconst 1, 1) := dk_4 (dk_at dksJ6_isLatin1_0 13 rfl rfl)
theorem dJ6_isLatin1_14 : decode cJ6_isLatin1 14 = .ok (.goto 4, 3) := dk_167 0 4 (dk_at dksJ6_isLatin1_0 14 rfl rfl)
theorem dJ6_isLatin1_17 : decode cJ6_isLatin1 17 = .ok (.iconst 0, 1) := dk_3 (dk_at dksJ6_isLatin1_0 17 rfl rfl)
theorem dJ6_isLatin1_18 : decode cJ6_isLatin1 18 = .ok (.ireturn, 1) := dk_172 (dk_at dksJ6_isLatin1_0 18 rfl rfl)
abbrev cJ6_length : ByteArray := prog_12_method_6_code
def yJ6_length : MethodName := ⟨RJ6, "length", "()I"⟩
theorem dJ6_length_0 : decode cJ6_length 0 = .ok (.aload_n 0, 1) := by decide +kernel
theorem dJ6_length_1 : decode cJ6_length 1 = .ok (.getfield 79, 3) := by decide +kernel
theorem dJ6_length_4 : decode cJ6_length 4 = .ok (.ireturn, 1) := by decide +kernel
abbrev cJ6_append : ByteArray := prog_12_method_31_code
def yJ6_append : MethodName := ⟨RJ6, "append", "(C)Ljava/lang/AbstractStringBuilder;"⟩
def dkwJ6_append_3 : List UInt8 := [181, 0, 79, 27, 184, 0, 197, 42, 176]
abbrev dktJ6_append_3 : List UInt8 := dkwJ6_append_3 ++ []
def dkwJ6_append_2 : List UInt8 := [182, 0, 83, 153, 0, 7, 42, 182, 0, 195, 42, 180, 0, 15, 42, 89, 180, 0, 79, 90, 4, 96]
abbrev dktJ6_append_2 : List UInt8 := dkwJ6_append_2 ++ dktJ6_append_3
def dkwJ6_append_1 : List UInt8 := [42, 180, 0, 15, 42, 89, 180, 0, 79, 90, 4, 96, 181, 0, 79, 27, 145, 84, 167, 0, 33, 42]
abbrev dktJ6_append_1 : List UInt8 := dkwJ6_append_1 ++ dktJ6_append_2
def dkwJ6_append_0 : List UInt8 := [42, 42, 180, 0, 79, 4, 96, 182, 0, 100, 42, 182, 0, 83, 153, 0, 31, 27, 184, 0, 191, 153, 0, 24]
abbrev dktJ6_append_0 : List UInt8 := dkwJ6_append_0 ++ dktJ6_append_1
theorem dksJ6_append_0 : cJ6_append.data.toList.drop 0 = dktJ6_append_0 := by decide +kernel
theorem dksJ6_append_1 : cJ6_append.data.toList.drop 24 = dktJ6_append_1 := dk_seg dksJ6_append_0 24 rfl rfl
theorem dksJ6_append_2 : cJ6_append.data.toList.drop 46 = dktJ6_append_2 := dk_seg dksJ6_append_1 22 rfl rfl
theorem dksJ6_append_3 : cJ6_append.data.toList.drop 68 = dktJ6_append_3 := dk_seg dksJ6_append_2 22 rfl rfl
theorem dJ6_append_0 : decode cJ6_append 0 = .ok (.aload_n 0, 1) := dk_42 (dk_at dksJ6_append_0 0 rfl rfl)
theorem dJ6_append_1 : decode cJ6_append 1 = .ok (.aload_n 0, 1) := dk_42 (dk_at dksJ6_append_0 1 rfl rfl)
theorem dJ6_append_2 : decode cJ6_append 2 = .ok (.getfield 79, 3) := dk_180 0 79 (dk_at dksJ6_append_0 2 rfl rfl)
theorem dJ6_append_5 : decode cJ6_append 5 = .ok (.iconst 1, 1) := dk_4 (dk_at dksJ6_append_0 5 rfl rfl)
theorem dJ6_append_6 : decode cJ6_append 6 = .ok (.iadd, 1) := dk_96 (dk_at dksJ6_append_0 6 rfl rfl)
theorem dJ6_append_7 : decode cJ6_append 7 = .ok (.invokevirtual 100, 3) := dk_182 0 100 (dk_at dksJ6_append_0 7 rfl rfl)
theorem dJ6_append_10 : decode cJ6_append 10 = .ok (.aload_n 0, 1) := dk_42 (dk_at dksJ6_append_0 10 rfl rfl)
theorem dJ6_append_11 : decode cJ6_append 11 = .ok (.invokevirtual 83, 3) := dk_182 0 83 (dk_at dksJ6_append_0 11 rfl rfl)
theorem dJ6_append_14 : decode cJ6_append 14 = .ok (.ifCond .eq 31, 3) := dk_153 0 31 (dk_at dksJ6_append_0 14 rfl rfl)
theorem dJ6_append_17 : decode cJ6_append 17 = .ok (.iload_n 1, 1) := dk_27 (dk_at dksJ6_append_0 17 rfl rfl)
theorem dJ6_append_18 : decode cJ6_append 18 = .ok (.invokestatic 191, 3) := dk_184 0 191 (dk_at dksJ6_append_0 18 rfl rfl)
theorem dJ6_append_21 : decode cJ6_append 21 = .ok (.ifCond .eq 24, 3) := dk_153 0 24 (dk_at dksJ6_append_0 21 rfl rfl)
theorem dJ6_append_24 : decode cJ6_append 24 = .ok (.aload_n 0, 1) := dk_42 (dk_at dksJ6_append_1 0 rfl rfl)
theorem dJ6_append_25 : decode cJ6_append 25 = .ok (.getfield 15, 3) := dk_180 0 15 (dk_at dksJ6_append_1 1 rfl rfl)
theorem dJ6_append_28 : decode cJ6_append 28 = .ok (.aload_n 0, 1) := dk_42 (dk_at dksJ6_append_1 4 rfl rfl)
theorem dJ6_append_29 : decode cJ6_append 29 = .ok (.dup, 1) := dk_89 (dk_at dksJ6_append_1 5 rfl rfl)
theorem dJ6_append_30 : decode cJ6_append 30 = .ok (.getfield 79, 3) := dk_180 0 79 (dk_at dksJ6_append_1 6 rfl rfl)
theorem dJ6_append_33 : decode cJ6_append 33 = .ok (.dup_x1, 1) := dk_90 (dk_at dksJ6_append_1 9 rfl rfl)
theorem dJ6_append_34 : decode cJ6_append 34 = .ok (.iconst 1, 1) := dk_4 (dk_at dksJ6_append_1 10 rfl rfl)
theorem dJ6_append_35 : decode cJ6_append 35 = .ok (.iadd, 1) := dk_96 (dk_at dksJ6_append_1 11 rfl rfl)
theorem dJ6_append_36 : decode cJ6_append 36 = .ok (.putfield 79, 3) := dk_181 0 79 (dk_at dksJ6_append_1 12 rfl rfl)
theorem dJ6_append_39 : decode cJ6_append 39 = .ok (.iload_n 1, 1) := dk_27 (dk_at dksJ6_append_1 15 rfl rfl)
theorem dJ6_append_40 : decode cJ6_append 40 = .ok (.i2b, 1) := dk_145 (dk_at dksJ6_append_1 16 rfl rfl)
theorem dJ6_append_41 : decode cJ6_append 41 = .ok (.bastore, 1) := dk_84 (dk_at dksJ6_append_1 17 rfl rfl)
theorem dJ6_append_42 : decode cJ6_append 42 = .ok (.goto 33, 3) := dk_167 0 33 (dk_at dksJ6_append_1 18 rfl rfl)
theorem dJ6_append_45 : decode cJ6_append 45 = .ok (.aload_n 0, 1) := dk_42 (dk_at dksJ6_append_1 21 rfl rfl)
theorem dJ6_append_46 : decode cJ6_append 46 = .ok (.invokevirtual 83, 3) := dk_182 0 83 (dk_at dksJ6_append_2 0 rfl rfl)
theorem dJ6_append_49 : decode cJ6_append 49 = .ok (.ifCond .eq 7, 3) := dk_153 0 7 (dk_at dksJ6_append_2 3 rfl rfl)
theorem dJ6_append_52 : decode cJ6_append 52 = .ok (.aload_n 0, 1) := dk_42 (dk_at dksJ6_append_2 6 rfl rfl)
theorem dJ6_append_53 : decode cJ6_append 53 = .ok (.invokevirtual 195, 3) := dk_182 0 195 (dk_at dksJ6_append_2 7 rfl rfl)
theorem dJ6_append_56 : decode cJ6_append 56 = .ok (.aload_n 0, 1) := dk_42 (dk_at dksJ6_append_2 10 rfl rfl)
theorem dJ6_append_57 : decode cJ6_append 57 = .ok (.getfield 15, 3) := dk_180 0 15 (dk_at dksJ6_append_2 11 rfl rfl)
theorem dJ6_append_60 : decode cJ6_append 60 = .ok (.aload_n 0, 1) := dk_42 (dk_at dksJ6_append_2 14 rfl rfl)
theorem dJ6_append_61 : decode cJ6_append 61 = .ok (.dup, 1) := dk_89 (dk_at dksJ6_append_2 15 rfl rfl)
theorem dJ6_append_62 : decode cJ6_append 62 = .ok (.getfield 79, 3) := dk_180 0 79 (dk_at dksJ6_append_2 16 rfl rfl)
theorem dJ6_append_65 : decode cJ6_append 65 = .ok (.dup_x1, 1) := dk_90 (dk_at dksJ6_append_2 19 rfl rfl)
theorem dJ6_append_66 : decode cJ6_append 66 = .ok (.iconst 1, 1) := dk_4 (dk_at dksJ6_append_2 20 rfl rfl)
theorem dJ6_append_67 : decode cJ6_append 67 = .ok (.iadd, 1) := dk_96 (dk_at dksJ6_append_2 21 rfl rfl)
theorem dJ6_append_68 : decode cJ6_append 68 = .ok (.putfield 79, 3) := dk_181 0 79 (dk_at dksJ6_append_3 0 rfl rfl)
theorem dJ6_append_71 : decode cJ6_append 71 = .ok (.iload_n 1, 1) := dk_27 (dk_at dksJ6_append_3 3 rfl rfl)
theorem dJ6_append_72 : decode cJ6_append 72 = .ok (.invokestatic 197, 3) := dk_184 0 197 (dk_at dksJ6_append_3 4 rfl rfl)
theorem dJ6_append_75 : decode cJ6_append 75 = .ok (.aload_n 0, 1) := dk_42 (dk_at dksJ6_append_3 7 rfl rfl)
theorem dJ6_append_76 : decode cJ6_append 76 = .ok (.areturn, 1) := dk_176 (dk_at dksJ6_append_3 8 rfl rfl)
abbrev cJ6_ensureCapacityInternal : ByteArray := prog_12_method_9_code
def yJ6_ensureCapacityInternal : MethodName := ⟨RJ6, "ensureCapacityInternal", "(I)V"⟩
def dkwJ6_ensureCapacityInternal_1 : List UInt8 := [182, 0, 104, 42, 180, 0, 22, 120, 184, 0, 108, 181, 0, 15, 177]
abbrev dktJ6_ensureCapacityInternal_1 : List UInt8 := dkwJ6_ensureCapacityInternal_1 ++ []
def dkwJ6_ensureCapacityInternal_0 : List UInt8 := [42, 180, 0, 15, 190, 42, 180, 0, 22, 122, 61, 27, 28, 100, 158, 0, 24, 42, 42, 180, 0, 15, 42, 27]
abbrev dktJ6_ensureCapacityInternal_0 : List UInt8 := dkwJ6_ensureCapacityInternal_0 ++ dktJ6_ensureCapacityInternal_1
theorem dksJ6_ensureCapacityInternal_0 : cJ6_ensureCapacityInternal.data.toList.drop 0 = dktJ6_ensureCapacityInternal_0 := by decide +kernel
theorem dksJ6_ensureCapacityInternal_1 : cJ6_ensureCapacityInternal.data.toList.drop 24 = dktJ6_ensureCapacityInternal_1 := dk_seg dksJ6_ensureCapacityInternal_0 24 rfl rfl
theorem dJ6_ensureCapacityInternal_0 : decode cJ6_ensureCapacityInternal 0 = .ok (.aload_n 0, 1) := dk_42 (dk_at dksJ6_ensureCapacityInternal_0 0 rfl rfl)
theorem dJ6_ensureCapacityInternal_1 : decode cJ6_ensureCapacityInternal 1 = .ok (.getfield 15, 3) := dk_180 0 15 (dk_at dksJ6_ensureCapacityInternal_0 1 rfl rfl)
theorem dJ6_ensureCapacityInternal_4 : decode cJ6_ensureCapacityInternal 4 = .ok (.arraylength, 1) := dk_190 (dk_at dksJ6_ensureCapacityInternal_0 4 rfl rfl)
theorem dJ6_ensureCapacityInternal_5 : decode cJ6_ensureCapacityInternal 5 = .ok (.aload_n 0, 1) := dk_42 (dk_at dksJ6_ensureCapacityInternal_0 5 rfl rfl)
theorem dJ6_ensureCapacityInternal_6 : decode cJ6_ensureCapacityInternal 6 = .ok (.getfield 22, 3) := dk_180 0 22 (dk_at dksJ6_ensureCapacityInternal_0 6 rfl rfl)
theorem dJ6_ensureCapacityInternal_9 : decode cJ6_ensureCapacityInternal 9 = .ok (.ishr, 1) := dk_122 (dk_at dksJ6_ensureCapacityInternal_0 9 rfl rfl)
theorem dJ6_ensureCapacityInternal_10 : decode cJ6_ensureCapacityInternal 10 = .ok (.istore_n 2, 1) := dk_61 (dk_at dksJ6_ensureCapacityInternal_0 10 rfl rfl)
theorem dJ6_ensureCapacityInternal_11 : decode cJ6_ensureCapacityInternal 11 = .ok (.iload_n 1, 1) := dk_27 (dk_at dksJ6_ensureCapacityInternal_0 11 rfl rfl)
theorem dJ6_ensureCapacityInternal_12 : decode cJ6_ensureCapacityInternal 12 = .ok (.iload_n 2, 1) := dk_28 (dk_at dksJ6_ensureCapacityInternal_0 12 rfl rfl)
theorem dJ6_ensureCapacityInternal_13 : decode cJ6_ensureCapacityInternal 13 = .ok (.isub, 1) := dk_100 (dk_at dksJ6_ensureCapacityInternal_0 13 rfl rfl)
theorem dJ6_ensureCapacityInternal_14 : decode cJ6_ensureCapacityInternal 14 = .ok (.ifCond .le 24, 3) := dk_158 0 24 (dk_at dksJ6_ensureCapacityInternal_0 14 rfl rfl)
theorem dJ6_ensureCapacityInternal_17 : decode cJ6_ensureCapacityInternal 17 = .ok (.aload_n 0, 1) := dk_42 (dk_at dksJ6_ensureCapacityInternal_0 17 rfl rfl)
theorem dJ6_ensureCapacityInternal_18 : decode cJ6_ensureCapacityInternal 18 = .ok (.aload_n 0, 1) := dk_42 (dk_at dksJ6_ensureCapacityInternal_0 18 rfl rfl)
theorem dJ6_ensureCapacityInternal_19 : decode cJ6_ensureCapacityInternal 19 = .ok (.getfield 15, 3) := dk_180 0 15 (dk_at dksJ6_ensureCapacityInternal_0 19 rfl rfl)
theorem dJ6_ensureCapacityInternal_22 : decode cJ6_ensureCapacityInternal 22 = .ok (.aload_n 0, 1) := dk_42 (dk_at dksJ6_ensureCapacityInternal_0 22 rfl rfl)
theorem dJ6_ensureCapacityInternal_23 : decode cJ6_ensureCapacityInternal 23 = .ok (.iload_n 1, 1) := dk_27 (dk_at dksJ6_ensureCapacityInternal_0 23 rfl rfl)
theorem dJ6_ensureCapacityInternal_24 : decode cJ6_ensureCapacityInternal 24 = .ok (.invokevirtual 104, 3) := dk_182 0 104 (dk_at dksJ6_ensureCapacityInternal_1 0 rfl rfl)
theorem dJ6_ensureCapacityInternal_27 : decode cJ6_ensureCapacityInternal 27 = .ok (.aload_n 0, 1) := dk_42 (dk_at dksJ6_ensureCapacityInternal_1 3 rfl rfl)
theorem dJ6_ensureCapacityInternal_28 : decode cJ6_ensureCapacityInternal 28 = .ok (.getfield 22, 3) := dk_180 0 22 (dk_at dksJ6_ensureCapacityInternal_1 4 rfl rfl)
theorem dJ6_ensureCapacityInternal_31 : decode cJ6_ensureCapacityInternal 31 = .ok (.ishl, 1) := dk_120 (dk_at dksJ6_ensureCapacityInternal_1 7 rfl rfl)
theorem dJ6_ensureCapacityInternal_32 : decode cJ6_ensureCapacityInternal 32 = .ok (.invokestatic 108, 3) := dk_184 0 108 (dk_at dksJ6_ensureCapacityInternal_1 8 rfl rfl)
theorem dJ6_ensureCapacityInternal_35 : decode cJ6_ensureCapacityInternal 35 = .ok (.putfield 15, 3) := dk_181 0 15 (dk_at dksJ6_ensureCapacityInternal_1 11 rfl rfl)
theorem dJ6_ensureCapacityInternal_38 : decode cJ6_ensureCapacityInternal 38 = .ok (.return_, 1) := dk_177 (dk_at dksJ6_ensureCapacityInternal_1 14 rfl rfl)
abbrev cJ6_newCapacity : ByteArray := prog_12_method_10_code
def yJ6_newCapacity : MethodName := ⟨RJ6, "newCapacity", "(I)I"⟩
abbrev cJ6_inflate : ByteArray := prog_12_method_11_code
def yJ6_inflate : MethodName := ⟨RJ6, "inflate", "()V"⟩
abbrev cJ6_setLength : ByteArray := prog_12_method_13_code
def yJ6_setLength : MethodName := ⟨RJ6, "setLength", "(I)V"⟩
def dkwJ6_setLength_3 : List UInt8 := [164, 0, 8, 42, 4, 181, 0, 73, 42, 27, 181, 0, 79, 177]
abbrev dktJ6_setLength_3 : List UInt8 := dkwJ6_setLength_3 ++ []
def dkwJ6_setLength_2 : List UInt8 := [167, 0, 31, 42, 180, 0, 15, 42, 180, 0, 79, 27, 184, 0, 137, 167, 0, 16, 42, 180, 0, 79, 27]
abbrev dktJ6_setLength_2 : List UInt8 := dkwJ6_setLength_2 ++ dktJ6_setLength_3
def dkwJ6_setLength_1 : List UInt8 := [162, 0, 40, 42, 182, 0, 83, 153, 0, 18, 42, 180, 0, 15, 42, 180, 0, 79, 27, 184, 0, 133]
abbrev dktJ6_setLength_1 : List UInt8 := dkwJ6_setLength_1 ++ dktJ6_setLength_2
def dkwJ6_setLength_0 : List UInt8 := [27, 156, 0, 12, 187, 0, 129, 89, 27, 183, 0, 131, 191, 42, 27, 182, 0, 100, 42, 180, 0, 79, 27]
abbrev dktJ6_setLength_0 : List UInt8 := dkwJ6_setLength_0 ++ dktJ6_setLength_1
theorem dksJ6_setLength_0 : cJ6_setLength.data.toList.drop 0 = dktJ6_setLength_0 := by decide +kernel
theorem dksJ6_setLength_1 : cJ6_setLength.data.toList.drop 23 = dktJ6_setLength_1 := dk_seg dksJ6_setLength_0 23 rfl rfl
theorem dksJ6_setLength_2 : cJ6_setLength.data.toList.drop 45 = dktJ6_setLength_2 := dk_seg dksJ6_setLength_1 22 rfl rfl
theorem dksJ6_setLength_3 : cJ6_setLength.data.toList.drop 68 = dktJ6_setLength_3 := dk_seg dksJ6_setLength_2 23 rfl rfl
theorem dJ6_setLength_0 : decode cJ6_setLength 0 = .ok (.iload_n 1, 1) := dk_27 (dk_at dksJ6_setLength_0 0 rfl rfl)
theorem dJ6_setLength_1 : decode cJ6_setLength 1 = .ok (.ifCond .ge 12, 3) := dk_156 0 12 (dk_at dksJ6_setLength_0 1 rfl rfl)
theorem dJ6_setLength_4 : decode cJ6_setLength 4 = .ok (.new 129, 3) := dk_187 0 129 (dk_at dksJ6_setLength_0 4 rfl rfl)
theorem dJ6_setLength_7 : decode cJ6_setLength 7 = .ok (.dup, 1) := dk_89 (dk_at dksJ6_setLength_0 7 rfl rfl)
theorem dJ6_setLength_8 : decode cJ6_setLength 8 = .ok (.iload_n 1, 1) := dk_27 (dk_at dksJ6_setLength_0 8 rfl rfl)
theorem dJ6_setLength_9 : decode cJ6_setLength 9 = .ok (.invokespecial 131, 3) := dk_183 0 131 (dk_at dksJ6_setLength_0 9 rfl rfl)
theorem dJ6_setLength_12 : decode cJ6_setLength 12 = .ok (.athrow, 1) := dk_191 (dk_at dksJ6_setLength_0 12 rfl rfl)
theorem dJ6_setLength_13 : decode cJ6_setLength 13 = .ok (.aload_n 0, 1) := dk_42 (dk_at dksJ6_setLength_0 13 rfl rfl)
theorem dJ6_setLength_14 : decode cJ6_setLength 14 = .ok (.iload_n 1, 1) := dk_27 (dk_at dksJ6_setLength_0 14 rfl rfl)
theorem dJ6_setLength_15 : decode cJ6_setLength 15 = .ok (.invokevirtual 100, 3) := dk_182 0 100 (dk_at dksJ6_setLength_0 15 rfl rfl)
theorem dJ6_setLength_18 : decode cJ6_setLength 18 = .ok (.aload_n 0, 1) := dk_42 (dk_at dksJ6_setLength_0 18 rfl rfl)
theorem dJ6_setLength_19 : decode cJ6_setLength 19 = .ok (.getfield 79, 3) := dk_180 0 79 (dk_at dksJ6_setLength_0 19 rfl rfl)
theorem dJ6_setLength_22 : decode cJ6_setLength 22 = .ok (.iload_n 1, 1) := dk_27 (dk_at dksJ6_setLength_0 22 rfl rfl)
theorem dJ6_setLength_23 : decode cJ6_setLength 23 = .ok (.if_icmp .ge 40, 3) := dk_162 0 40 (dk_at dksJ6_setLength_1 0 rfl rfl)
theorem dJ6_setLength_26 : decode cJ6_setLength 26 = .ok (.aload_n 0, 1) := dk_42 (dk_at dksJ6_setLength_1 3 rfl rfl)
theorem dJ6_setLength_27 : decode cJ6_setLength 27 = .ok (.invokevirtual 83, 3) := dk_182 0 83 (dk_at dksJ6_setLength_1 4 rfl rfl)
theorem dJ6_setLength_30 : decode cJ6_setLength 30 = .ok (.ifCond .eq 18, 3) := dk_153 0 18 (dk_at dksJ6_setLength_1 7 rfl rfl)
theorem dJ6_setLength_33 : decode cJ6_setLength 33 = .ok (.aload_n 0, 1) := dk_42 (dk_at dksJ6_setLength_1 10 rfl rfl)
theorem dJ6_setLength_34 : decode cJ6_setLength 34 = .ok (.getfield 15, 3) := dk_180 0 15 (dk_at dksJ6_setLength_1 11 rfl rfl)
theorem dJ6_setLength_37 : decode cJ6_setLength 37 = .ok (.aload_n 0, 1) := dk_42 (dk_at dksJ6_setLength_1 14 rfl rfl)
theorem dJ6_setLength_38 : decode cJ6_setLength 38 = .ok (.getfield 79, 3) := dk_180 0 79 (dk_at dksJ6_setLength_1 15 rfl rfl)
theorem dJ6_setLength_41 : decode cJ6_setLength 41 = .ok (.iload_n 1, 1) := dk_27 (dk_at dksJ6_setLength_1 18 rfl rfl)
theorem dJ6_setLength_42 : decode cJ6_setLength 42 = .ok (.invokestatic 133, 3) := dk_184 0 133 (dk_at dksJ6_setLength_1 19 rfl rfl)
theorem dJ6_setLength_45 : decode cJ6_setLength 45 = .ok (.goto 31, 3) := dk_167 0 31 (dk_at dksJ6_setLength_2 0 rfl rfl)
theorem dJ6_setLength_48 : decode cJ6_setLength 48 = .ok (.aload_n 0, 1) := dk_42 (dk_at dksJ6_setLength_2 3 rfl rfl)
theorem dJ6_setLength_49 : decode cJ6_setLength 49 = .ok (.getfield 15, 3) := dk_180 0 15 (dk_at dksJ6_setLength_2 4 rfl rfl)
theorem dJ6_setLength_52 : decode cJ6_setLength 52 = .ok (.aload_n 0, 1) := dk_42 (dk_at dksJ6_setLength_2 7 rfl rfl)
theorem dJ6_setLength_53 : decode cJ6_setLength 53 = .ok (.getfield 79, 3) := dk_180 0 79 (dk_at dksJ6_setLength_2 8 rfl rfl)
theorem dJ6_setLength_56 : decode cJ6_setLength 56 = .ok (.iload_n 1, 1) := dk_27 (dk_at dksJ6_setLength_2 11 rfl rfl)
theorem dJ6_setLength_57 : decode cJ6_setLength 57 = .ok (.invokestatic 137, 3) := dk_184 0 137 (dk_at dksJ6_setLength_2 12 rfl rfl)
theorem dJ6_setLength_60 : decode cJ6_setLength 60 = .ok (.goto 16, 3) := dk_167 0 16 (dk_at dksJ6_setLength_2 15 rfl rfl)
theorem dJ6_setLength_63 : decode cJ6_setLength 63 = .ok (.aload_n 0, 1) := dk_42 (dk_at dksJ6_setLength_2 18 rfl rfl)
theorem dJ6_setLength_64 : decode cJ6_setLength 64 = .ok (.getfield 79, 3) := dk_180 0 79 (dk_at dksJ6_setLength_2 19 rfl rfl)
theorem dJ6_setLength_67 : decode cJ6_setLength 67 = .ok (.iload_n 1, 1) := dk_27 (dk_at dksJ6_setLength_2 22 rfl rfl)
theorem dJ6_setLength_68 : decode cJ6_setLength 68 = .ok (.if_icmp .le 8, 3) := dk_164 0 8 (dk_at dksJ6_setLength_3 0 rfl rfl)
theorem dJ6_setLength_71 : decode cJ6_setLength 71 = .ok (.aload_n 0, 1) := dk_42 (dk_at dksJ6_setLength_3 3 rfl rfl)
theorem dJ6_setLength_72 : decode cJ6_setLength 72 = .ok (.iconst 1, 1) := dk_4 (dk_at dksJ6_setLength_3 4 rfl rfl)
theorem dJ6_setLength_73 : decode cJ6_setLength 73 = .ok (.putfield 73, 3) := dk_181 0 73 (dk_at dksJ6_setLength_3 5 rfl rfl)
theorem dJ6_setLength_76 : decode cJ6_setLength 76 = .ok (.aload_n 0, 1) := dk_42 (dk_at dksJ6_setLength_3 8 rfl rfl)
theorem dJ6_setLength_77 : decode cJ6_setLength 77 = .ok (.iload_n 1, 1) := dk_27 (dk_at dksJ6_setLength_3 9 rfl rfl)
theorem dJ6_setLength_78 : decode cJ6_setLength 78 = .ok (.putfield 79, 3) := dk_181 0 79 (dk_at dksJ6_setLength_3 10 rfl rfl)
theorem dJ6_setLength_81 : decode cJ6_setLength 81 = .ok (.return_, 1) := dk_177 (dk_at dksJ6_setLength_3 13 rfl rfl)
abbrev cJ6_getValue : ByteArray := prog_12_method_64_code
def yJ6_getValue : MethodName := ⟨RJ6, "getValue", "()[B"⟩
theorem dJ6_getValue_0 : decode cJ6_getValue 0 = .ok (.aload_n 0, 1) := by decide +kernel
theorem dJ6_getValue_1 : decode cJ6_getValue 1 = .ok (.getfield 15, 3) := by decide +kernel
theorem dJ6_getValue_4 : decode cJ6_getValue 4 = .ok (.areturn, 1) := by decide +kernel
abbrev cJ6_charAt : ByteArray := prog_12_method_14_code
def yJ6_charAt : MethodName := ⟨RJ6, "charAt", "(I)C"⟩
def dkwJ6_charAt_1 : List UInt8 := [21, 4, 184, 0, 144, 28, 154, 0, 12, 45, 27, 51, 17, 0, 255, 126, 146, 172, 45, 27, 184, 0, 148, 172]
abbrev dktJ6_charAt_1 : List UInt8 := dkwJ6_charAt_1 ++ []
def dkwJ6_charAt_0 : List UInt8 := [42, 180, 0, 22, 61, 42, 180, 0, 15, 78, 42, 180, 0, 79, 45, 190, 28, 122, 184, 0, 138, 54, 4, 27]
abbrev dktJ6_charAt_0 : List UInt8 := dkwJ6_charAt_0 ++ dktJ6_charAt_1
theorem dksJ6_charAt_0 : cJ6_charAt.data.toList.drop 0 = dktJ6_charAt_0 := by decide +kernel
theorem dksJ6_charAt_1 : cJ6_charAt.data.toList.drop 24 = dktJ6_charAt_1 := dk_seg dksJ6_charAt_0 24 rfl rfl
theorem dJ6_charAt_0 : decode cJ6_charAt 0 = .ok (.aload_n 0, 1) := dk_42 (dk_at dksJ6_charAt_0 0 rfl rfl)
theorem dJ6_charAt_1 : decode cJ6_charAt 1 = .ok (.getfield 22, 3) := dk_180 0 22 (dk_at dksJ6_charAt_0 1 rfl rfl)
theorem dJ6_charAt_4 : decode cJ6_charAt 4 = .ok (.istore_n 2, 1) := dk_61 (dk_at dksJ6_charAt_0 4 rfl rfl)
theorem dJ6_charAt_5 : decode cJ6_charAt 5 = .ok (.aload_n 0, 1) := dk_42 (dk_at dksJ6_charAt_0 5 rfl rfl)
theorem dJ6_charAt_6 : decode cJ6_charAt 6 = .ok (.getfield 15, 3) := dk_180 0 15 (dk_at dksJ6_charAt_0 6 rfl rfl)
theorem dJ6_charAt_9 : decode cJ6_charAt 9 = .ok (.astore_n 3, 1) := dk_78 (dk_at dksJ6_charAt_0 9 rfl rfl)
theorem dJ6_charAt_10 : decode cJ6_charAt 10 = .ok (.aload_n 0, 1) := dk_42 (dk_at dksJ6_charAt_0 10 rfl rfl)
theorem dJ6_charAt_11 : decode cJ6_charAt 11 = .ok (.getfield 79, 3) := dk_180 0 79 (dk_at dksJ6_charAt_0 11 rfl rfl)
theorem dJ6_charAt_14 : decode cJ6_charAt 14 = .ok (.aload_n 3, 1) := dk_45 (dk_at dksJ6_charAt_0 14 rfl rfl)
theorem dJ6_charAt_15 : decode cJ6_charAt 15 = .ok (.arraylength, 1) := dk_190 (dk_at dksJ6_charAt_0 15 rfl rfl)
theorem dJ6_charAt_16 : decode cJ6_charAt 16 = .ok (.iload_n 2, 1) := dk_28 (dk_at dksJ6_charAt_0 16 rfl rfl)
theorem dJ6_charAt_17 : decode cJ6_charAt 17 = .ok (.ishr, 1) := dk_122 (dk_at dksJ6_charAt_0 17 rfl rfl)
theorem dJ6_charAt_18 : decode cJ6_charAt 18 = .ok (.invokestatic 138, 3) := dk_184 0 138 (dk_at dksJ6_charAt_0 18 rfl rfl)
theorem dJ6_charAt_21 : decode cJ6_charAt 21 = .ok (.istore 4, 2) := dk_54 4 (dk_at dksJ6_charAt_0 21 rfl rfl)
theorem dJ6_charAt_23 : decode cJ6_charAt 23 = .ok (.iload_n 1, 1) := dk_27 (dk_at dksJ6_charAt_0 23 rfl rfl)
theorem dJ6_charAt_24 : decode cJ6_charAt 24 = .ok (.iload 4, 2) := dk_21 4 (dk_at dksJ6_charAt_1 0 rfl rfl)
theorem dJ6_charAt_26 : decode cJ6_charAt 26 = .ok (.invokestatic 144, 3) := dk_184 0 144 (dk_at dksJ6_charAt_1 2 rfl rfl)
theorem dJ6_charAt_29 : decode cJ6_charAt 29 = .ok (.iload_n 2, 1) := dk_28 (dk_at dksJ6_charAt_1 5 rfl rfl)
theorem dJ6_charAt_30 : decode cJ6_charAt 30 = .ok (.ifCond .ne 12, 3) := dk_154 0 12 (dk_at dksJ6_charAt_1 6 rfl rfl)
theorem dJ6_charAt_33 : decode cJ6_charAt 33 = .ok (.aload_n 3, 1) := dk_45 (dk_at dksJ6_charAt_1 9 rfl rfl)
theorem dJ6_charAt_34 : decode cJ6_charAt 34 = .ok (.iload_n 1, 1) := dk_27 (dk_at dksJ6_charAt_1 10 rfl rfl)
theorem dJ6_charAt_35 : decode cJ6_charAt 35 = .ok (.baload, 1) := dk_51 (dk_at dksJ6_charAt_1 11 rfl rfl)
theorem dJ6_charAt_36 : decode cJ6_charAt 36 = .ok (.sipush 255, 3) := dk_17 0 255 (dk_at dksJ6_charAt_1 12 rfl rfl)
theorem dJ6_charAt_39 : decode cJ6_charAt 39 = .ok (.iand, 1) := dk_126 (dk_at dksJ6_charAt_1 15 rfl rfl)
theorem dJ6_charAt_40 : decode cJ6_charAt 40 = .ok (.i2c, 1) := dk_146 (dk_at dksJ6_charAt_1 16 rfl rfl)
theorem dJ6_charAt_41 : decode cJ6_charAt 41 = .ok (.ireturn, 1) := dk_172 (dk_at dksJ6_charAt_1 17 rfl rfl)
theorem dJ6_charAt_42 : decode cJ6_charAt 42 = .ok (.aload_n 3, 1) := dk_45 (dk_at dksJ6_charAt_1 18 rfl rfl)
theorem dJ6_charAt_43 : decode cJ6_charAt 43 = .ok (.iload_n 1, 1) := dk_27 (dk_at dksJ6_charAt_1 19 rfl rfl)
theorem dJ6_charAt_44 : decode cJ6_charAt 44 = .ok (.invokestatic 148, 3) := dk_184 0 148 (dk_at dksJ6_charAt_1 20 rfl rfl)
theorem dJ6_charAt_47 : decode cJ6_charAt 47 = .ok (.ireturn, 1) := dk_172 (dk_at dksJ6_charAt_1 23 rfl rfl)
theorem q40 : (Jvm.Cond.initialized "java/lang/AbstractStringBuilder") ∈ lw_all := lw_g (lw_at lw_m1 10 rfl) rfl
theorem q259 : (Jvm.Cond.instanceMethod ({ cls := "java/lang/AbstractStringBuilder", name := "<init>", desc := "(I)V" } : Jvm.MethodName)) ∈ lw_all := lw_g (lw_at lw_m1 229 rfl) rfl
theorem q260 : (Jvm.Cond.code ({ cls := "java/lang/AbstractStringBuilder", name := "<init>", desc := "(I)V" } : Jvm.MethodName) prog_12_method_2_code (2 : Nat) (Option.none : Option Jvm.ClassFile.FieldType)) ∈ lw_all := lw_g (lw_at lw_m1 230 rfl) rfl
theorem q261 : (Jvm.Cond.methodLink "java/lang/AbstractStringBuilder" (3 : Nat) ({ cls := "java/lang/Object", name := "<init>", desc := "()V" } : Jvm.MethodName)) ∈ lw_all := lw_g (lw_at lw_m1 231 rfl) rfl
theorem q262 : (Jvm.Cond.fieldLink "java/lang/AbstractStringBuilder" (18 : Nat) "java/lang/String" "COMPACT_STRINGS" "Z") ∈ lw_all := lw_g (lw_at lw_m1 232 rfl) rfl
theorem q264 : (Jvm.Cond.methodLink "java/lang/AbstractStringBuilder" (26 : Nat) ({ cls := "java/lang/StringUTF16", name := "newBytesFor", desc := "(I)[B" } : Jvm.MethodName)) ∈ lw_all := lw_g (lw_at lw_m1 234 rfl) rfl
theorem q271 : (Jvm.Cond.fieldLink "java/lang/AbstractStringBuilder" (15 : Nat) "java/lang/AbstractStringBuilder" "value" "[B") ∈ lw_all := lw_g (lw_at lw_m2 1 rfl) rfl
theorem q272 : (Jvm.Cond.fieldLink "java/lang/AbstractStringBuilder" (22 : Nat) "java/lang/AbstractStringBuilder" "coder" "B") ∈ lw_all := lw_g (lw_at lw_m2 2 rfl) rfl
theorem q273 : (Jvm.Cond.fieldLink "java/lang/AbstractStringBuilder" (73 : Nat) "java/lang/AbstractStringBuilder" "maybeLatin1" "Z") ∈ lw_all := lw_g (lw_at lw_m2 3 rfl) rfl
theorem q275 : (Jvm.Cond.fieldLink "java/lang/AbstractStringBuilder" (79 : Nat) "java/lang/AbstractStringBuilder" "count" "I") ∈ lw_all := lw_g (lw_at lw_m2 5 rfl) rfl
theorem q277 : (Jvm.Cond.soleField "java/lang/AbstractStringBuilder" "value") ∈ lw_all := lw_g (lw_at lw_m2 7 rfl) rfl
theorem q279 : (Jvm.Cond.soleField "java/lang/AbstractStringBuilder" "coder") ∈ lw_all := lw_g (lw_at lw_m2 9 rfl) rfl
theorem q281 : (Jvm.Cond.soleField "java/lang/AbstractStringBuilder" "maybeLatin1") ∈ lw_all := lw_g (lw_at lw_m2 11 rfl) rfl
theorem q283 : (Jvm.Cond.soleField "java/lang/AbstractStringBuilder" "count") ∈ lw_all := lw_g (lw_at lw_m2 13 rfl) rfl
theorem q1194 : (Jvm.Cond.instanceMethod ({ cls := "java/lang/AbstractStringBuilder", name := "compareTo", desc := "(Ljava/lang/AbstractStringBuilder;)I" } : Jvm.MethodName)) ∈ lw_all := lw_g (lw_at lw_m5 204 rfl) rfl
theorem q1195 : (Jvm.Cond.code ({ cls := "java/lang/AbstractStringBuilder", name := "compareTo", desc := "(Ljava/lang/AbstractStringBuilder;)I" } : Jvm.MethodName) prog_12_method_5_code (6 : Nat) (Option.some Jvm.ClassFile.FieldType.int)) ∈ lw_all := lw_g (lw_at lw_m5 205 rfl) rfl
theorem q1196 : (Jvm.Cond.methodLink "java/lang/AbstractStringBuilder" (83 : Nat) ({ cls := "java/lang/AbstractStringBuilder", name := "isLatin1", desc := "()Z" } : Jvm.MethodName)) ∈ lw_all := lw_g (lw_at lw_m5 206 rfl) rfl
theorem q1197 : (Jvm.Cond.instanceMethod ({ cls := "java/lang/AbstractStringBuilder", name := "isLatin1", desc := "()Z" } : Jvm.MethodName)) ∈ lw_all := lw_g (lw_at lw_m5 207 rfl) rfl
theorem q1198 : (Jvm.Cond.sameMethod "java/lang/AbstractStringBuilder" "java/lang/AbstractStringBuilder" "isLatin1" "()Z") ∈ lw_all := lw_g (lw_at lw_m5 208 rfl) rfl
theorem q1200 : (Jvm.Cond.code ({ cls := "java/lang/AbstractStringBuilder", name := "isLatin1", desc := "()Z" } : Jvm.MethodName) prog_12_method_68_code (1 : Nat) (Option.some Jvm.ClassFile.FieldType.boolean)) ∈ lw_all := lw_g (lw_at lw_m5 210 rfl) rfl
theorem q1201 : (Jvm.Cond.methodLink "java/lang/AbstractStringBuilder" (87 : Nat) ({ cls := "java/lang/StringLatin1", name := "compareTo", desc := "([B[BII)I" } : Jvm.MethodName)) ∈ lw_all := lw_g (lw_at lw_m5 211 rfl) rfl
theorem q1202 : (Jvm.Cond.methodLink "java/lang/AbstractStringBuilder" (93 : Nat) ({ cls := "java/lang/StringUTF16", name := "compareTo", desc := "([B[BII)I" } : Jvm.MethodName)) ∈ lw_all := lw_g (lw_at lw_m5 212 rfl) rfl
theorem q1216 : (Jvm.Cond.methodLink "java/lang/AbstractStringBuilder" (94 : Nat) ({ cls := "java/lang/StringLatin1", name := "compareToUTF16", desc := "([B[BII)I" } : Jvm.MethodName)) ∈ lw_all := lw_g (lw_at lw_m5 226 rfl) rfl
theorem q1220 : (Jvm.Cond.methodLink "java/lang/AbstractStringBuilder" (97 : Nat) ({ cls := "java/lang/StringUTF16", name := "compareToLatin1", desc := "([B[BII)I" } : Jvm.MethodName)) ∈ lw_all := lw_g (lw_at lw_m5 230 rfl) rfl
theorem q1542 : (Jvm.Cond.instanceMethod ({ cls := "java/lang/AbstractStringBuilder", name := "length", desc := "()I" } : Jvm.MethodName)) ∈ lw_all := lw_g (lw_at lw_m7 72 rfl) rfl
theorem q1543 : (Jvm.Cond.code ({ cls := "java/lang/AbstractStringBuilder", name := "length", desc := "()I" } : Jvm.MethodName) prog_12_method_6_code (1 : Nat) (Option.some Jvm.ClassFile.FieldType.int)) ∈ lw_all := lw_g (lw_at lw_m7 73 rfl) rfl
theorem q1549 : (Jvm.Cond.instanceMethod ({ cls := "java/lang/AbstractStringBuilder", name := "append", desc := "(C)Ljava/lang/AbstractStringBuilder;" } : Jvm.MethodName)) ∈ lw_all := lw_g (lw_at lw_m7 79 rfl) rfl
theorem q1550 : (Jvm.Cond.code ({ cls := "java/lang/AbstractStringBuilder", name := "append", desc := "(C)Ljava/lang/AbstractStringBuilder;" } : Jvm.MethodName) prog_12_method_31_code (2 : Nat) (Option.some (Jvm.ClassFile.FieldType.object "java/lang/AbstractStringBuilder"))) ∈ lw_all := lw_g (lw_at lw_m7 80 rfl) rfl
theorem q1551 : (Jvm.Cond.methodLink "java/lang/AbstractStringBuilder" (100 : Nat) ({ cls := "java/lang/AbstractStringBuilder", name := "ensureCapacityInternal", desc := "(I)V" } : Jvm.MethodName)) ∈ lw_all := lw_g (lw_at lw_m7 81 rfl) rfl
theorem q1552 : (Jvm.Cond.privateMethod ({ cls := "java/lang/AbstractStringBuilder", name := "ensureCapacityInternal", desc := "(I)V" } : Jvm.MethodName)) ∈ lw_tbl := lw_at lw_m7 82 rfl
theorem q1553 : (Jvm.Cond.instanceMethod ({ cls := "java/lang/AbstractStringBuilder", name := "ensureCapacityInternal", desc := "(I)V" } : Jvm.MethodName)) ∈ lw_all := lw_g (lw_at lw_m7 83 rfl) rfl
theorem q1554 : (Jvm.Cond.code ({ cls := "java/lang/AbstractStringBuilder", name := "ensureCapacityInternal", desc := "(I)V" } : Jvm.MethodName) prog_12_method_9_code (3 : Nat) (Option.none : Option Jvm.ClassFile.FieldType)) ∈ lw_all := lw_g (lw_at lw_m7 84 rfl) rfl
theorem q1555 : (Jvm.Cond.methodLink "java/lang/AbstractStringBuilder" (104 : Nat) ({ cls := "java/lang/AbstractStringBuilder", name := "newCapacity", desc := "(I)I" } : Jvm.MethodName)) ∈ lw_all := lw_g (lw_at lw_m7 85 rfl) rfl
theorem q1556 : (Jvm.Cond.privateMethod ({ cls := "java/lang/AbstractStringBuilder", name := "newCapacity", desc := "(I)I" } : Jvm.MethodName)) ∈ lw_tbl := lw_at lw_m7 86 rfl
theorem q1557 : (Jvm.Cond.instanceMethod ({ cls := "java/lang/AbstractStringBuilder", name := "newCapacity", desc := "(I)I" } : Jvm.MethodName)) ∈ lw_all := lw_g (lw_at lw_m7 87 rfl) rfl
theorem q1558 : (Jvm.Cond.code ({ cls := "java/lang/AbstractStringBuilder", name := "newCapacity", desc := "(I)I" } : Jvm.MethodName) prog_12_method_10_code (6 : Nat) (Option.some Jvm.ClassFile.FieldType.int)) ∈ lw_all := lw_g (lw_at lw_m7 88 rfl) rfl
theorem q1559 : (Jvm.Cond.methodLink "java/lang/AbstractStringBuilder" (114 : Nat) ({ cls := "jdk/internal/util/ArraysSupport", name := "newLength", desc := "(III)I" } : Jvm.MethodName)) ∈ lw_all := lw_g (lw_at lw_m7 89 rfl) rfl
theorem q1560 : (Jvm.Cond.constant "java/lang/AbstractStringBuilder" (39 : Nat) (2147483647 : Int32)) ∈ lw_all := lw_g (lw_at lw_m7 90 rfl) rfl
theorem q1561 : (Jvm.Cond.methodLink "java/lang/AbstractStringBuilder" (108 : Nat) ({ cls := "java/util/Arrays", name := "copyOf", desc := "([BI)[B" } : Jvm.MethodName)) ∈ lw_all := lw_g (lw_at lw_m7 91 rfl) rfl
theorem q1571 : (Jvm.Cond.methodLink "java/lang/AbstractStringBuilder" (191 : Nat) ({ cls := "java/lang/StringLatin1", name := "canEncode", desc := "(C)Z" } : Jvm.MethodName)) ∈ lw_all := lw_g (lw_at lw_m7 101 rfl) rfl
theorem q1574 : (Jvm.Cond.methodLink "java/lang/AbstractStringBuilder" (195 : Nat) ({ cls := "java/lang/AbstractStringBuilder", name := "inflate", desc := "()V" } : Jvm.MethodName)) ∈ lw_all := lw_g (lw_at lw_m7 104 rfl) rfl
theorem q1575 : (Jvm.Cond.privateMethod ({ cls := "java/lang/AbstractStringBuilder", name := "inflate", desc := "()V" } : Jvm.MethodName)) ∈ lw_tbl := lw_at lw_m7 105 rfl
theorem q1576 : (Jvm.Cond.instanceMethod ({ cls := "java/lang/AbstractStringBuilder", name := "inflate", desc := "()V" } : Jvm.MethodName)) ∈ lw_all := lw_g (lw_at lw_m7 106 rfl) rfl
theorem q1577 : (Jvm.Cond.code ({ cls := "java/lang/AbstractStringBuilder", name := "inflate", desc := "()V" } : Jvm.MethodName) prog_12_method_11_code (2 : Nat) (Option.none : Option Jvm.ClassFile.FieldType)) ∈ lw_all := lw_g (lw_at lw_m7 107 rfl) rfl
theorem q1578 : (Jvm.Cond.methodLink "java/lang/AbstractStringBuilder" (125 : Nat) ({ cls := "java/lang/StringLatin1", name := "inflate", desc := "([BI[BII)V" } : Jvm.MethodName)) ∈ lw_all := lw_g (lw_at lw_m7 108 rfl) rfl
theorem q1596 : (Jvm.Cond.methodLink "java/lang/AbstractStringBuilder" (197 : Nat) ({ cls := "java/lang/StringUTF16", name := "putCharSB", desc := "([BII)V" } : Jvm.MethodName)) ∈ lw_all := lw_g (lw_at lw_m7 126 rfl) rfl
theorem q1615 : (Jvm.Cond.instanceMethod ({ cls := "java/lang/AbstractStringBuilder", name := "setLength", desc := "(I)V" } : Jvm.MethodName)) ∈ lw_all := lw_g (lw_at lw_m7 145 rfl) rfl
theorem q1616 : (Jvm.Cond.code ({ cls := "java/lang/AbstractStringBuilder", name := "setLength", desc := "(I)V" } : Jvm.MethodName) prog_12_method_13_code (2 : Nat) (Option.none : Option Jvm.ClassFile.FieldType)) ∈ lw_all := lw_g (lw_at lw_m7 146 rfl) rfl
theorem q1617 : (Jvm.Cond.methodLink "java/lang/AbstractStringBuilder" (133 : Nat) ({ cls := "java/lang/StringLatin1", name := "fillNull", desc := "([BII)V" } : Jvm.MethodName)) ∈ lw_all := lw_g (lw_at lw_m7 147 rfl) rfl
theorem q1626 : (Jvm.Cond.methodLink "java/lang/AbstractStringBuilder" (137 : Nat) ({ cls := "java/lang/StringUTF16", name := "fillNull", desc := "([BII)V" } : Jvm.MethodName)) ∈ lw_all := lw_g (lw_at lw_m7 156 rfl) rfl
theorem q1701 : (Jvm.Cond.instanceMethod ({ cls := "java/lang/AbstractStringBuilder", name := "getValue", desc := "()[B" } : Jvm.MethodName)) ∈ lw_all := lw_g (lw_at lw_m7 231 rfl) rfl
theorem q1702 : (Jvm.Cond.sameMethod "java/lang/AbstractStringBuilder" "java/lang/AbstractStringBuilder" "getValue" "()[B") ∈ lw_all := lw_g (lw_at lw_m7 232 rfl) rfl
theorem q1704 : (Jvm.Cond.code ({ cls := "java/lang/AbstractStringBuilder", name := "getValue", desc := "()[B" } : Jvm.MethodName) prog_12_method_64_code (1 : Nat) (Option.some (Jvm.ClassFile.FieldType.array Jvm.ClassFile.FieldType.byte))) ∈ lw_all := lw_g (lw_at lw_m7 234 rfl) rfl
theorem q1893 : (Jvm.Cond.instanceMethod ({ cls := "java/lang/AbstractStringBuilder", name := "charAt", desc := "(I)C" } : Jvm.MethodName)) ∈ lw_all := lw_g (lw_at lw_m8 183 rfl) rfl
theorem q1894 : (Jvm.Cond.code ({ cls := "java/lang/AbstractStringBuilder", name := "charAt", desc := "(I)C" } : Jvm.MethodName) prog_12_method_14_code (5 : Nat) (Option.some Jvm.ClassFile.FieldType.char)) ∈ lw_all := lw_g (lw_at lw_m8 184 rfl) rfl
theorem q1895 : (Jvm.Cond.methodLink "java/lang/AbstractStringBuilder" (138 : Nat) ({ cls := "java/lang/Math", name := "min", desc := "(II)I" } : Jvm.MethodName)) ∈ lw_all := lw_g (lw_at lw_m8 185 rfl) rfl
theorem q1896 : (Jvm.Cond.methodLink "java/lang/AbstractStringBuilder" (144 : Nat) ({ cls := "java/lang/String", name := "checkIndex", desc := "(II)V" } : Jvm.MethodName)) ∈ lw_all := lw_g (lw_at lw_m8 186 rfl) rfl
theorem q1897 : (Jvm.Cond.methodLink "java/lang/AbstractStringBuilder" (148 : Nat) ({ cls := "java/lang/StringUTF16", name := "getChar", desc := "([BI)C" } : Jvm.MethodName)) ∈ lw_all := lw_g (lw_at lw_m8 187 rfl) rfl
theorem q2390 : (Jvm.Cond.sameMethod "java/lang/AbstractStringBuilder" "java/lang/AbstractStringBuilder" "compareTo" "(Ljava/lang/AbstractStringBuilder;)I") ∈ lw_all := lw_g (lw_at lw_m10 200 rfl) rfl
theorem q2392 : (Jvm.Cond.sameMethod "java/lang/AbstractStringBuilder" "java/lang/AbstractStringBuilder" "length" "()I") ∈ lw_all := lw_g (lw_at lw_m10 202 rfl) rfl
theorem q2393 : (Jvm.Cond.sameMethod "java/lang/AbstractStringBuilder" "java/lang/AbstractStringBuilder" "append" "(C)Ljava/lang/AbstractStringBuilder;") ∈ lw_all := lw_g (lw_at lw_m10 203 rfl) rfl
theorem q2394 : (Jvm.Cond.sameMethod "java/lang/AbstractStringBuilder" "java/lang/AbstractStringBuilder" "ensureCapacityInternal" "(I)V") ∈ lw_all := lw_g (lw_at lw_m10 204 rfl) rfl
theorem q2395 : (Jvm.Cond.sameMethod "java/lang/AbstractStringBuilder" "java/lang/AbstractStringBuilder" "newCapacity" "(I)I") ∈ lw_all := lw_g (lw_at lw_m10 205 rfl) rfl
theorem q2396 : (Jvm.Cond.sameMethod "java/lang/AbstractStringBuilder" "java/lang/AbstractStringBuilder" "inflate" "()V") ∈ lw_all := lw_g (lw_at lw_m10 206 rfl) rfl
theorem q2397 : (Jvm.Cond.sameMethod "java/lang/AbstractStringBuilder" "java/lang/AbstractStringBuilder" "setLength" "(I)V") ∈ lw_all := lw_g (lw_at lw_m10 207 rfl) rfl
theorem q2402 : (Jvm.Cond.sameMethod "java/lang/AbstractStringBuilder" "java/lang/AbstractStringBuilder" "charAt" "(I)C") ∈ lw_all := lw_g (lw_at lw_m10 212 rfl) rfl
/-! java/lang/StringBuilder -/
set_option maxRecDepth 100000
def RJ7 : String := "java/lang/StringBuilder"
def TJ7 : u_T := fun k => match k with
  | 0 => ("java/lang/AbstractStringBuilder", "value", "[B", false)
  | 1 => ("java/lang/AbstractStringBuilder", "coder", "B", false)
  | 2 => ("java/lang/AbstractStringBuilder", "maybeLatin1", "Z", false)
  | _ => ("java/lang/AbstractStringBuilder", "count", "I", false)
def tyJ7 : Nat → FieldType := fun k => match k with
  | 0 => .array .byte
  | 1 => .byte
  | 2 => .boolean
  | _ => .int
abbrev wsJ70 : List Cond := u_ws RJ7 TJ7 4
theorem nmJ7 : ∀ a, a < 4 → ∀ b, b < 4 → a ≠ b → (TJ7 a).2.1 ≠ (TJ7 b).2.1 := by decide +kernel
theorem tyJ7_ok : ∀ k, k < 4 → parseFieldDescriptor (TJ7 k).2.2.1 = some (tyJ7 k) := by decide +kernel
abbrev cJ7_init : ByteArray := prog_24_method_1_code
def yJ7_init : MethodName := ⟨RJ7, "<init>", "()V"⟩
def dkwJ7_init_0 : List UInt8 := [42, 16, 16, 183, 0, 1, 177]
abbrev dktJ7_init_0 : List UInt8 := dkwJ7_init_0 ++ []
theorem dksJ7_init_0 : cJ7_init.data.toList.drop 0 = dktJ7_init_0 := by decide +kernel
theorem dJ7_init_0 : decode cJ7_init 0 = .ok (.aload_n 0, 1) := dk_42 (dk_at dksJ7_init_0 0 rfl rfl)
theorem dJ7_init_1 : decode cJ7_init 1 = .ok (.bipush 16, 2) := dk_16 16 (dk_at dksJ7_init_0 1 rfl rfl)
theorem dJ7_init_3 : decode cJ7_init 3 = .ok (.invokespecial 1, 3) := dk_183 0 1 (dk_at dksJ7_init_0 3 rfl rfl)
theorem dJ7_init_6 : decode cJ7_init 6 = .ok (.return_, 1) := dk_177 (dk_at dksJ7_init_0 6 rfl rfl)
abbrev cJ7_compareTo : ByteArray := prog_24_method_97_code
def yJ7_compareTo : MethodName := ⟨RJ7, "compareTo", "(Ljava/lang/Object;)I"⟩
abbrev cJ7_compareTo_2 : ByteArray := prog_24_method_5_code
def yJ7_compareTo_2 : MethodName := ⟨RJ7, "compareTo", "(Ljava/lang/StringBuilder;)I"⟩
abbrev cJ7_length : ByteArray := prog_24_method_93_code
def yJ7_length : MethodName := ⟨RJ7, "length", "()I"⟩
theorem dJ7_length_0 : decode cJ7_length 0 = .ok (.aload_n 0, 1) := by decide +kernel
theorem dJ7_length_1 : decode cJ7_length 1 = .ok (.invokespecial 343, 3) := by decide +kernel
theorem dJ7_length_4 : decode cJ7_length 4 = .ok (.ireturn, 1) := by decide +kernel
abbrev cJ7_append : ByteArray := prog_24_method_14_code
def yJ7_append : MethodName := ⟨RJ7, "append", "(C)Ljava/lang/StringBuilder;"⟩
def dkwJ7_append_0 : List UInt8 := [42, 27, 183, 0, 50, 87, 42, 176]
abbrev dktJ7_append_0 : List UInt8 := dkwJ7_append_0 ++ []
theorem dksJ7_append_0 : cJ7_append.data.toList.drop 0 = dktJ7_append_0 := by decide +kernel
theorem dJ7_append_0 : decode cJ7_append 0 = .ok (.aload_n 0, 1) := dk_42 (dk_at dksJ7_append_0 0 rfl rfl)
theorem dJ7_append_1 : decode cJ7_append 1 = .ok (.iload_n 1, 1) := dk_27 (dk_at dksJ7_append_0 1 rfl rfl)
theorem dJ7_append_2 : decode cJ7_append 2 = .ok (.invokespecial 50, 3) := dk_183 0 50 (dk_at dksJ7_append_0 2 rfl rfl)
theorem dJ7_append_5 : decode cJ7_append 5 = .ok (.pop, 1) := dk_87 (dk_at dksJ7_append_0 5 rfl rfl)
theorem dJ7_append_6 : decode cJ7_append 6 = .ok (.aload_n 0, 1) := dk_42 (dk_at dksJ7_append_0 6 rfl rfl)
theorem dJ7_append_7 : decode cJ7_append 7 = .ok (.areturn, 1) := dk_176 (dk_at dksJ7_append_0 7 rfl rfl)
abbrev cJ7_setLength : ByteArray := prog_24_method_89_code
def yJ7_setLength : MethodName := ⟨RJ7, "setLength", "(I)V"⟩
def dkwJ7_setLength_0 : List UInt8 := [42, 27, 183, 1, 77, 177]
abbrev dktJ7_setLength_0 : List UInt8 := dkwJ7_setLength_0 ++ []
theorem dksJ7_setLength_0 : cJ7_setLength.data.toList.drop 0 = dktJ7_setLength_0 := by decide +kernel
theorem dJ7_setLength_0 : decode cJ7_setLength 0 = .ok (.aload_n 0, 1) := dk_42 (dk_at dksJ7_setLength_0 0 rfl rfl)
theorem dJ7_setLength_1 : decode cJ7_setLength 1 = .ok (.iload_n 1, 1) := dk_27 (dk_at dksJ7_setLength_0 1 rfl rfl)
theorem dJ7_setLength_2 : decode cJ7_setLength 2 = .ok (.invokespecial 333, 3) := dk_183 1 77 (dk_at dksJ7_setLength_0 2 rfl rfl)
theorem dJ7_setLength_5 : decode cJ7_setLength 5 = .ok (.return_, 1) := dk_177 (dk_at dksJ7_setLength_0 5 rfl rfl)
abbrev cJ7_toString : ByteArray := prog_24_method_42_code
def yJ7_toString : MethodName := ⟨RJ7, "toString", "()Ljava/lang/String;"⟩
def dkwJ7_toString_0 : List UInt8 := [187, 0, 18, 89, 42, 183, 0, 137, 176]
abbrev dktJ7_toString_0 : List UInt8 := dkwJ7_toString_0 ++ []
theorem dksJ7_toString_0 : cJ7_toString.data.toList.drop 0 = dktJ7_toString_0 := by decide +kernel
theorem dJ7_toString_0 : decode cJ7_toString 0 = .ok (.new 18, 3) := dk_187 0 18 (dk_at dksJ7_toString_0 0 rfl rfl)
theorem dJ7_toString_3 : decode cJ7_toString 3 = .ok (.dup, 1) := dk_89 (dk_at dksJ7_toString_0 3 rfl rfl)
theorem dJ7_toString_4 : decode cJ7_toString 4 = .ok (.aload_n 0, 1) := dk_42 (dk_at dksJ7_toString_0 4 rfl rfl)
theorem dJ7_toString_5 : decode cJ7_toString 5 = .ok (.invokespecial 137, 3) := dk_183 0 137 (dk_at dksJ7_toString_0 5 rfl rfl)
theorem dJ7_toString_8 : decode cJ7_toString 8 = .ok (.areturn, 1) := dk_176 (dk_at dksJ7_toString_0 8 rfl rfl)
abbrev cJ7_charAt : ByteArray := prog_24_method_88_code
def yJ7_charAt : MethodName := ⟨RJ7, "charAt", "(I)C"⟩
def dkwJ7_charAt_0 : List UInt8 := [42, 27, 183, 1, 73, 172]
abbrev dktJ7_charAt_0 : List UInt8 := dkwJ7_charAt_0 ++ []
theorem dksJ7_charAt_0 : cJ7_charAt.data.toList.drop 0 = dktJ7_charAt_0 := by decide +kernel
theorem dJ7_charAt_0 : decode cJ7_charAt 0 = .ok (.aload_n 0, 1) := dk_42 (dk_at dksJ7_charAt_0 0 rfl rfl)
theorem dJ7_charAt_1 : decode cJ7_charAt 1 = .ok (.iload_n 1, 1) := dk_27 (dk_at dksJ7_charAt_0 1 rfl rfl)
theorem dJ7_charAt_2 : decode cJ7_charAt 2 = .ok (.invokespecial 329, 3) := dk_183 1 73 (dk_at dksJ7_charAt_0 2 rfl rfl)
theorem dJ7_charAt_5 : decode cJ7_charAt 5 = .ok (.ireturn, 1) := dk_172 (dk_at dksJ7_charAt_0 5 rfl rfl)
theorem q41 : (Jvm.Cond.initialized "java/lang/StringBuilder") ∈ lw_all := lw_g (lw_at lw_m1 11 rfl) rfl
theorem q254 : (Jvm.Cond.instantiable "java/lang/StringBuilder" (4 : Nat)) ∈ lw_all := lw_g (lw_at lw_m1 224 rfl) rfl
theorem q256 : (Jvm.Cond.instanceMethod ({ cls := "java/lang/StringBuilder", name := "<init>", desc := "()V" } : Jvm.MethodName)) ∈ lw_all := lw_g (lw_at lw_m1 226 rfl) rfl
theorem q257 : (Jvm.Cond.code ({ cls := "java/lang/StringBuilder", name := "<init>", desc := "()V" } : Jvm.MethodName) prog_24_method_1_code (1 : Nat) (Option.none : Option Jvm.ClassFile.FieldType)) ∈ lw_all := lw_g (lw_at lw_m1 227 rfl) rfl
theorem q258 : (Jvm.Cond.methodLink "java/lang/StringBuilder" (1 : Nat) ({ cls := "java/lang/AbstractStringBuilder", name := "<init>", desc := "(I)V" } : Jvm.MethodName)) ∈ lw_all := lw_g (lw_at lw_m1 228 rfl) rfl
theorem q276 : (Jvm.Cond.lays "java/lang/StringBuilder" "java/lang/AbstractStringBuilder" "value" "[B") ∈ lw_all := lw_g (lw_at lw_m2 6 rfl) rfl
theorem q278 : (Jvm.Cond.lays "java/lang/StringBuilder" "java/lang/AbstractStringBuilder" "coder" "B") ∈ lw_all := lw_g (lw_at lw_m2 8 rfl) rfl
theorem q280 : (Jvm.Cond.lays "java/lang/StringBuilder" "java/lang/AbstractStringBuilder" "maybeLatin1" "Z") ∈ lw_all := lw_g (lw_at lw_m2 10 rfl) rfl
theorem q282 : (Jvm.Cond.lays "java/lang/StringBuilder" "java/lang/AbstractStringBuilder" "count" "I") ∈ lw_all := lw_g (lw_at lw_m2 12 rfl) rfl
theorem q284 : (Jvm.Cond.superclass "java/lang/StringBuilder" "java/lang/AbstractStringBuilder") ∈ lw_all := lw_g (lw_at lw_m2 14 rfl) rfl
theorem q544 : (Jvm.Cond.selects "java/lang/StringBuilder" ({ cls := "java/lang/Object", name := "getClass", desc := "()Ljava/lang/Class;" } : Jvm.MethodName) ({ cls := "java/lang/Object", name := "getClass", desc := "()Ljava/lang/Class;" } : Jvm.MethodName)) ∈ lw_all := lw_g (lw_at lw_m3 34 rfl) rfl
theorem q899 : (Jvm.Cond.selects "java/lang/StringBuilder" ({ cls := "java/lang/Object", name := "hashCode", desc := "()I" } : Jvm.MethodName) ({ cls := "java/lang/Object", name := "hashCode", desc := "()I" } : Jvm.MethodName)) ∈ lw_all := lw_g (lw_at lw_m4 149 rfl) rfl
theorem q1182 : (Jvm.Cond.castable "java/lang/StringBuilder" "java/lang/Comparable") ∈ lw_tbl := lw_at lw_m5 192 rfl
theorem q1183 : (Jvm.Cond.selects "java/lang/StringBuilder" ({ cls := "java/lang/Comparable", name := "compareTo", desc := "(Ljava/lang/Object;)I" } : Jvm.MethodName) ({ cls := "java/lang/StringBuilder", name := "compareTo", desc := "(Ljava/lang/Object;)I" } : Jvm.MethodName)) ∈ lw_all := lw_g (lw_at lw_m5 193 rfl) rfl
theorem q1184 : (Jvm.Cond.unhidden "java/lang/StringBuilder" "compareTo" "(Ljava/lang/Object;)I") ∈ lw_tbl := lw_at lw_m5 194 rfl
theorem q1185 : (Jvm.Cond.instanceMethod ({ cls := "java/lang/StringBuilder", name := "compareTo", desc := "(Ljava/lang/Object;)I" } : Jvm.MethodName)) ∈ lw_all := lw_g (lw_at lw_m5 195 rfl) rfl
theorem q1186 : (Jvm.Cond.publicMethod ({ cls := "java/lang/StringBuilder", name := "compareTo", desc := "(Ljava/lang/Object;)I" } : Jvm.MethodName)) ∈ lw_tbl := lw_at lw_m5 196 rfl
theorem q1187 : (Jvm.Cond.code ({ cls := "java/lang/StringBuilder", name := "compareTo", desc := "(Ljava/lang/Object;)I" } : Jvm.MethodName) prog_24_method_97_code (2 : Nat) (Option.some Jvm.ClassFile.FieldType.int)) ∈ lw_all := lw_g (lw_at lw_m5 197 rfl) rfl
theorem q1188 : (Jvm.Cond.classLink "java/lang/StringBuilder" (24 : Nat) "java/lang/StringBuilder") ∈ lw_all := lw_g (lw_at lw_m5 198 rfl) rfl
theorem q1189 : (Jvm.Cond.methodLink "java/lang/StringBuilder" (346 : Nat) ({ cls := "java/lang/StringBuilder", name := "compareTo", desc := "(Ljava/lang/StringBuilder;)I" } : Jvm.MethodName)) ∈ lw_all := lw_g (lw_at lw_m5 199 rfl) rfl
theorem q1190 : (Jvm.Cond.instanceMethod ({ cls := "java/lang/StringBuilder", name := "compareTo", desc := "(Ljava/lang/StringBuilder;)I" } : Jvm.MethodName)) ∈ lw_all := lw_g (lw_at lw_m5 200 rfl) rfl
theorem q1191 : (Jvm.Cond.selects "java/lang/StringBuilder" ({ cls := "java/lang/StringBuilder", name := "compareTo", desc := "(Ljava/lang/StringBuilder;)I" } : Jvm.MethodName) ({ cls := "java/lang/StringBuilder", name := "compareTo", desc := "(Ljava/lang/StringBuilder;)I" } : Jvm.MethodName)) ∈ lw_all := lw_g (lw_at lw_m5 201 rfl) rfl
theorem q1192 : (Jvm.Cond.code ({ cls := "java/lang/StringBuilder", name := "compareTo", desc := "(Ljava/lang/StringBuilder;)I" } : Jvm.MethodName) prog_24_method_5_code (2 : Nat) (Option.some Jvm.ClassFile.FieldType.int)) ∈ lw_all := lw_g (lw_at lw_m5 202 rfl) rfl
theorem q1193 : (Jvm.Cond.methodLink "java/lang/StringBuilder" (13 : Nat) ({ cls := "java/lang/AbstractStringBuilder", name := "compareTo", desc := "(Ljava/lang/AbstractStringBuilder;)I" } : Jvm.MethodName)) ∈ lw_all := lw_g (lw_at lw_m5 203 rfl) rfl
theorem q1199 : (Jvm.Cond.selects "java/lang/StringBuilder" ({ cls := "java/lang/AbstractStringBuilder", name := "isLatin1", desc := "()Z" } : Jvm.MethodName) ({ cls := "java/lang/AbstractStringBuilder", name := "isLatin1", desc := "()Z" } : Jvm.MethodName)) ∈ lw_all := lw_g (lw_at lw_m5 209 rfl) rfl
theorem q1279 : (Jvm.Cond.selects "java/lang/StringBuilder" ({ cls := "java/lang/Object", name := "equals", desc := "(Ljava/lang/Object;)Z" } : Jvm.MethodName) ({ cls := "java/lang/Object", name := "equals", desc := "(Ljava/lang/Object;)Z" } : Jvm.MethodName)) ∈ lw_all := lw_g (lw_at lw_m6 49 rfl) rfl
theorem q1538 : (Jvm.Cond.instanceMethod ({ cls := "java/lang/StringBuilder", name := "length", desc := "()I" } : Jvm.MethodName)) ∈ lw_all := lw_g (lw_at lw_m7 68 rfl) rfl
theorem q1539 : (Jvm.Cond.selects "java/lang/StringBuilder" ({ cls := "java/lang/StringBuilder", name := "length", desc := "()I" } : Jvm.MethodName) ({ cls := "java/lang/StringBuilder", name := "length", desc := "()I" } : Jvm.MethodName)) ∈ lw_all := lw_g (lw_at lw_m7 69 rfl) rfl
theorem q1540 : (Jvm.Cond.code ({ cls := "java/lang/StringBuilder", name := "length", desc := "()I" } : Jvm.MethodName) prog_24_method_93_code (1 : Nat) (Option.some Jvm.ClassFile.FieldType.int)) ∈ lw_all := lw_g (lw_at lw_m7 70 rfl) rfl
theorem q1541 : (Jvm.Cond.methodLink "java/lang/StringBuilder" (343 : Nat) ({ cls := "java/lang/AbstractStringBuilder", name := "length", desc := "()I" } : Jvm.MethodName)) ∈ lw_all := lw_g (lw_at lw_m7 71 rfl) rfl
theorem q1545 : (Jvm.Cond.instanceMethod ({ cls := "java/lang/StringBuilder", name := "append", desc := "(C)Ljava/lang/StringBuilder;" } : Jvm.MethodName)) ∈ lw_all := lw_g (lw_at lw_m7 75 rfl) rfl
theorem q1546 : (Jvm.Cond.selects "java/lang/StringBuilder" ({ cls := "java/lang/StringBuilder", name := "append", desc := "(C)Ljava/lang/StringBuilder;" } : Jvm.MethodName) ({ cls := "java/lang/StringBuilder", name := "append", desc := "(C)Ljava/lang/StringBuilder;" } : Jvm.MethodName)) ∈ lw_all := lw_g (lw_at lw_m7 76 rfl) rfl
theorem q1547 : (Jvm.Cond.code ({ cls := "java/lang/StringBuilder", name := "append", desc := "(C)Ljava/lang/StringBuilder;" } : Jvm.MethodName) prog_24_method_14_code (2 : Nat) (Option.some (Jvm.ClassFile.FieldType.object "java/lang/StringBuilder"))) ∈ lw_all := lw_g (lw_at lw_m7 77 rfl) rfl
theorem q1548 : (Jvm.Cond.methodLink "java/lang/StringBuilder" (50 : Nat) ({ cls := "java/lang/AbstractStringBuilder", name := "append", desc := "(C)Ljava/lang/AbstractStringBuilder;" } : Jvm.MethodName)) ∈ lw_all := lw_g (lw_at lw_m7 78 rfl) rfl
theorem q1611 : (Jvm.Cond.instanceMethod ({ cls := "java/lang/StringBuilder", name := "setLength", desc := "(I)V" } : Jvm.MethodName)) ∈ lw_all := lw_g (lw_at lw_m7 141 rfl) rfl
theorem q1612 : (Jvm.Cond.selects "java/lang/StringBuilder" ({ cls := "java/lang/StringBuilder", name := "setLength", desc := "(I)V" } : Jvm.MethodName) ({ cls := "java/lang/StringBuilder", name := "setLength", desc := "(I)V" } : Jvm.MethodName)) ∈ lw_all := lw_g (lw_at lw_m7 142 rfl) rfl
theorem q1613 : (Jvm.Cond.code ({ cls := "java/lang/StringBuilder", name := "setLength", desc := "(I)V" } : Jvm.MethodName) prog_24_method_89_code (2 : Nat) (Option.none : Option Jvm.ClassFile.FieldType)) ∈ lw_all := lw_g (lw_at lw_m7 143 rfl) rfl
theorem q1614 : (Jvm.Cond.methodLink "java/lang/StringBuilder" (333 : Nat) ({ cls := "java/lang/AbstractStringBuilder", name := "setLength", desc := "(I)V" } : Jvm.MethodName)) ∈ lw_all := lw_g (lw_at lw_m7 144 rfl) rfl
theorem q1688 : (Jvm.Cond.instanceMethod ({ cls := "java/lang/StringBuilder", name := "toString", desc := "()Ljava/lang/String;" } : Jvm.MethodName)) ∈ lw_all := lw_g (lw_at lw_m7 218 rfl) rfl
theorem q1689 : (Jvm.Cond.selects "java/lang/StringBuilder" ({ cls := "java/lang/StringBuilder", name := "toString", desc := "()Ljava/lang/String;" } : Jvm.MethodName) ({ cls := "java/lang/StringBuilder", name := "toString", desc := "()Ljava/lang/String;" } : Jvm.MethodName)) ∈ lw_all := lw_g (lw_at lw_m7 219 rfl) rfl
theorem q1690 : (Jvm.Cond.code ({ cls := "java/lang/StringBuilder", name := "toString", desc := "()Ljava/lang/String;" } : Jvm.MethodName) prog_24_method_42_code (1 : Nat) (Option.some (Jvm.ClassFile.FieldType.object "java/lang/String"))) ∈ lw_all := lw_g (lw_at lw_m7 220 rfl) rfl
theorem q1691 : (Jvm.Cond.classLink "java/lang/StringBuilder" (18 : Nat) "java/lang/String") ∈ lw_all := lw_g (lw_at lw_m7 221 rfl) rfl
theorem q1693 : (Jvm.Cond.methodLink "java/lang/StringBuilder" (137 : Nat) ({ cls := "java/lang/String", name := "<init>", desc := "(Ljava/lang/StringBuilder;)V" } : Jvm.MethodName)) ∈ lw_all := lw_g (lw_at lw_m7 223 rfl) rfl
theorem q1703 : (Jvm.Cond.selects "java/lang/StringBuilder" ({ cls := "java/lang/AbstractStringBuilder", name := "getValue", desc := "()[B" } : Jvm.MethodName) ({ cls := "java/lang/AbstractStringBuilder", name := "getValue", desc := "()[B" } : Jvm.MethodName)) ∈ lw_all := lw_g (lw_at lw_m7 233 rfl) rfl
theorem q1864 : (Jvm.Cond.castable "java/lang/StringBuilder" "java/lang/CharSequence") ∈ lw_tbl := lw_at lw_m8 154 rfl
theorem q1865 : (Jvm.Cond.selects "java/lang/StringBuilder" ({ cls := "java/lang/CharSequence", name := "length", desc := "()I" } : Jvm.MethodName) ({ cls := "java/lang/StringBuilder", name := "length", desc := "()I" } : Jvm.MethodName)) ∈ lw_all := lw_g (lw_at lw_m8 155 rfl) rfl
theorem q1866 : (Jvm.Cond.unhidden "java/lang/StringBuilder" "length" "()I") ∈ lw_tbl := lw_at lw_m8 156 rfl
theorem q1867 : (Jvm.Cond.publicMethod ({ cls := "java/lang/StringBuilder", name := "length", desc := "()I" } : Jvm.MethodName)) ∈ lw_tbl := lw_at lw_m8 157 rfl
theorem q1887 : (Jvm.Cond.selects "java/lang/StringBuilder" ({ cls := "java/lang/CharSequence", name := "charAt", desc := "(I)C" } : Jvm.MethodName) ({ cls := "java/lang/StringBuilder", name := "charAt", desc := "(I)C" } : Jvm.MethodName)) ∈ lw_all := lw_g (lw_at lw_m8 177 rfl) rfl
theorem q1888 : (Jvm.Cond.unhidden "java/lang/StringBuilder" "charAt" "(I)C") ∈ lw_tbl := lw_at lw_m8 178 rfl
theorem q1889 : (Jvm.Cond.instanceMethod ({ cls := "java/lang/StringBuilder", name := "charAt", desc := "(I)C" } : Jvm.MethodName)) ∈ lw_all := lw_g (lw_at lw_m8 179 rfl) rfl
theorem q1890 : (Jvm.Cond.publicMethod ({ cls := "java/lang/StringBuilder", name := "charAt", desc := "(I)C" } : Jvm.MethodName)) ∈ lw_tbl := lw_at lw_m8 180 rfl
theorem q1891 : (Jvm.Cond.code ({ cls := "java/lang/StringBuilder", name := "charAt", desc := "(I)C" } : Jvm.MethodName) prog_24_method_88_code (2 : Nat) (Option.some Jvm.ClassFile.FieldType.char)) ∈ lw_all := lw_g (lw_at lw_m8 181 rfl) rfl
theorem q1892 : (Jvm.Cond.methodLink "java/lang/StringBuilder" (329 : Nat) ({ cls := "java/lang/AbstractStringBuilder", name := "charAt", desc := "(I)C" } : Jvm.MethodName)) ∈ lw_all := lw_g (lw_at lw_m8 182 rfl) rfl
theorem q2401 : (Jvm.Cond.selects "java/lang/StringBuilder" ({ cls := "java/lang/AbstractStringBuilder", name := "length", desc := "()I" } : Jvm.MethodName) ({ cls := "java/lang/StringBuilder", name := "length", desc := "()I" } : Jvm.MethodName)) ∈ lw_all := lw_g (lw_at lw_m10 211 rfl) rfl
theorem q2416 : (Jvm.Cond.castable "java/lang/StringBuilder" "java/lang/Object") ∈ lw_tbl := lw_at lw_m10 226 rfl
theorem in_J7 : ∀ w ∈ wsJ70, w ∈ lw_all := lw_in wsJ70 [276, 278, 280, 282] (by decide +kernel) (by decide +kernel)
/-! java/lang/String -/
set_option maxRecDepth 100000
def RJ8 : String := "java/lang/String"
def TJ8 : u_T := fun k => match k with
  | 0 => ("java/lang/String", "value", "[B", true)
  | 1 => ("java/lang/String", "coder", "B", true)
  | 2 => ("java/lang/String", "hash", "I", false)
  | _ => ("java/lang/String", "hashIsZero", "Z", false)
def tyJ8 : Nat → FieldType := fun k => match k with
  | 0 => .array .byte
  | 1 => .byte
  | 2 => .int
  | _ => .boolean
abbrev wsJ80 : List Cond := u_ws RJ8 TJ8 4
theorem nmJ8 : ∀ a, a < 4 → ∀ b, b < 4 → a ≠ b → (TJ8 a).2.1 ≠ (TJ8 b).2.1 := by decide +kernel
theorem tyJ8_ok : ∀ k, k < 4 → parseFieldDescriptor (TJ8 k).2.2.1 = some (tyJ8 k) := by decide +kernel
abbrev cJ8_hashCode : ByteArray := prog_23_method_78_code
def yJ8_hashCode : MethodName := ⟨RJ8, "hashCode", "()I"⟩
abbrev cJ8_isLatin1 : ByteArray := prog_23_method_154_code
def yJ8_isLatin1 : MethodName := ⟨RJ8, "isLatin1", "()Z"⟩
def dkwJ8_isLatin1_0 : List UInt8 := [178, 0, 38, 153, 0, 14, 42, 180, 0, 15, 154, 0, 7, 4, 167, 0, 4, 3, 172]
abbrev dktJ8_isLatin1_0 : List UInt8 := dkwJ8_isLatin1_0 ++ []
theorem dksJ8_isLatin1_0 : cJ8_isLatin1.data.toList.drop 0 = dktJ8_isLatin1_0 := by decide +kernel
theorem dJ8_isLatin1_0 : decode cJ8_isLatin1 0 = .ok (.getstatic 38, 3) := dk_178 0 38 (dk_at dksJ8_isLatin1_0 0 rfl rfl)
theorem dJ8_isLatin1_3 : decode cJ8_isLatin1 3 = .ok (.ifCond .eq 14, 3) := dk_153 0 14 (dk_at dksJ8_isLatin1_0 3 rfl rfl)
theorem dJ8_isLatin1_6 : decode cJ8_isLatin1 6 = .ok (.aload_n 0, 1) := dk_42 (dk_at dksJ8_isLatin1_0 6 rfl rfl)
theorem dJ8_isLatin1_7 : decode cJ8_isLatin1 7 = .ok (.getfield 15, 3) := dk_180 0 15 (dk_at dksJ8_isLatin1_0 7 rfl rfl)
theorem dJ8_isLatin1_10 : decode cJ8_isLatin1 10 = .ok (.ifCond .ne 7, 3) := dk_154 0 7 (dk_at dksJ8_isLatin1_0 10 rfl rfl)
theorem dJ8_isLatin1_13 : decode cJ8_isLatin1 13 = .ok (.iconst 1, 1) := dk_4 (dk_at dksJ8_isLatin1_0 13 rfl rfl)
theorem dJ8_isLatin1_14 : decode cJ8_isLatin1 14 = .ok (.goto 4, 3) := dk_167 0 4 (dk_at dksJ8_isLatin1_0 14 rfl rfl)
theorem dJ8_isLatin1_17 : decode cJ8_isLatin1 17 = .ok (.iconst 0, 1) := dk_3 (dk_at dksJ8_isLatin1_0 17 rfl rfl)
theorem dJ8_isLatin1_18 : decode cJ8_isLatin1 18 = .ok (.ireturn, 1) := dk_172 (dk_at dksJ8_isLatin1_0 18 rfl rfl)
abbrev cJ8_compareTo : ByteArray := prog_23_method_162_code
def yJ8_compareTo : MethodName := ⟨RJ8, "compareTo", "(Ljava/lang/Object;)I"⟩
abbrev cJ8_compareTo_2 : ByteArray := prog_23_method_71_code
def yJ8_compareTo_2 : MethodName := ⟨RJ8, "compareTo", "(Ljava/lang/String;)I"⟩
abbrev cJ8_coder : ByteArray := prog_23_method_152_code
def yJ8_coder : MethodName := ⟨RJ8, "coder", "()B"⟩
def dkwJ8_coder_0 : List UInt8 := [178, 0, 38, 153, 0, 10, 42, 180, 0, 15, 167, 0, 4, 4, 172]
abbrev dktJ8_coder_0 : List UInt8 := dkwJ8_coder_0 ++ []
theorem dksJ8_coder_0 : cJ8_coder.data.toList.drop 0 = dktJ8_coder_0 := by decide +kernel
theorem dJ8_coder_0 : decode cJ8_coder 0 = .ok (.getstatic 38, 3) := dk_178 0 38 (dk_at dksJ8_coder_0 0 rfl rfl)
theorem dJ8_coder_3 : decode cJ8_coder 3 = .ok (.ifCond .eq 10, 3) := dk_153 0 10 (dk_at dksJ8_coder_0 3 rfl rfl)
theorem dJ8_coder_6 : decode cJ8_coder 6 = .ok (.aload_n 0, 1) := dk_42 (dk_at dksJ8_coder_0 6 rfl rfl)
theorem dJ8_coder_7 : decode cJ8_coder 7 = .ok (.getfield 15, 3) := dk_180 0 15 (dk_at dksJ8_coder_0 7 rfl rfl)
theorem dJ8_coder_10 : decode cJ8_coder 10 = .ok (.goto 4, 3) := dk_167 0 4 (dk_at dksJ8_coder_0 10 rfl rfl)
theorem dJ8_coder_13 : decode cJ8_coder 13 = .ok (.iconst 1, 1) := dk_4 (dk_at dksJ8_coder_0 13 rfl rfl)
theorem dJ8_coder_14 : decode cJ8_coder 14 = .ok (.ireturn, 1) := dk_172 (dk_at dksJ8_coder_0 14 rfl rfl)
abbrev cJ8_checkOffset : ByteArray := prog_23_method_156_code
def yJ8_checkOffset : MethodName := ⟨RJ8, "checkOffset", "(II)V"⟩
abbrev cJ8_equals : ByteArray := prog_23_method_66_code
def yJ8_equals : MethodName := ⟨RJ8, "equals", "(Ljava/lang/Object;)Z"⟩
abbrev cJ8_checkBoundsOffCount : ByteArray := prog_23_method_157_code
def yJ8_checkBoundsOffCount : MethodName := ⟨RJ8, "checkBoundsOffCount", "(III)I"⟩
abbrev cJ8_checkIndex : ByteArray := prog_23_method_155_code
def yJ8_checkIndex : MethodName := ⟨RJ8, "checkIndex", "(II)V"⟩
def dkwJ8_checkIndex_0 : List UInt8 := [26, 27, 178, 4, 29, 184, 4, 35, 87, 177]
abbrev dktJ8_checkIndex_0 : List UInt8 := dkwJ8_checkIndex_0 ++ []
theorem dksJ8_checkIndex_0 : cJ8_checkIndex.data.toList.drop 0 = dktJ8_checkIndex_0 := by decide +kernel
theorem dJ8_checkIndex_0 : decode cJ8_checkIndex 0 = .ok (.iload_n 0, 1) := dk_26 (dk_at dksJ8_checkIndex_0 0 rfl rfl)
theorem dJ8_checkIndex_1 : decode cJ8_checkIndex 1 = .ok (.iload_n 1, 1) := dk_27 (dk_at dksJ8_checkIndex_0 1 rfl rfl)
theorem dJ8_checkIndex_2 : decode cJ8_checkIndex 2 = .ok (.getstatic 1053, 3) := dk_178 4 29 (dk_at dksJ8_checkIndex_0 2 rfl rfl)
theorem dJ8_checkIndex_5 : decode cJ8_checkIndex 5 = .ok (.invokestatic 1059, 3) := dk_184 4 35 (dk_at dksJ8_checkIndex_0 5 rfl rfl)
theorem dJ8_checkIndex_8 : decode cJ8_checkIndex 8 = .ok (.pop, 1) := dk_87 (dk_at dksJ8_checkIndex_0 8 rfl rfl)
theorem dJ8_checkIndex_9 : decode cJ8_checkIndex 9 = .ok (.return_, 1) := dk_177 (dk_at dksJ8_checkIndex_0 9 rfl rfl)
abbrev cJ8_init : ByteArray := prog_23_method_53_code
def yJ8_init : MethodName := ⟨RJ8, "<init>", "(Ljava/lang/StringBuilder;)V"⟩
def dkwJ8_init_0 : List UInt8 := [42, 43, 1, 183, 1, 233, 177]
abbrev dktJ8_init_0 : List UInt8 := dkwJ8_init_0 ++ []
theorem dksJ8_init_0 : cJ8_init.data.toList.drop 0 = dktJ8_init_0 := by decide +kernel
theorem dJ8_init_0 : decode cJ8_init 0 = .ok (.aload_n 0, 1) := dk_42 (dk_at dksJ8_init_0 0 rfl rfl)
theorem dJ8_init_1 : decode cJ8_init 1 = .ok (.aload_n 1, 1) := dk_43 (dk_at dksJ8_init_0 1 rfl rfl)
theorem dJ8_init_2 : decode cJ8_init 2 = .ok (.aconst_null, 1) := dk_1 (dk_at dksJ8_init_0 2 rfl rfl)
theorem dJ8_init_3 : decode cJ8_init 3 = .ok (.invokespecial 489, 3) := dk_183 1 233 (dk_at dksJ8_init_0 3 rfl rfl)
theorem dJ8_init_6 : decode cJ8_init 6 = .ok (.return_, 1) := dk_177 (dk_at dksJ8_init_0 6 rfl rfl)
abbrev cJ8_init_2 : ByteArray := prog_23_method_150_code
def yJ8_init_2 : MethodName := ⟨RJ8, "<init>", "(Ljava/lang/AbstractStringBuilder;Ljava/lang/Void;)V"⟩
def dkwJ8_init_2_4 : List UInt8 := [181, 0, 9, 177]
abbrev dktJ8_init_2_4 : List UInt8 := dkwJ8_init_2_4 ++ []
def dkwJ8_init_2_3 : List UInt8 := [184, 0, 47, 181, 0, 15, 177, 42, 4, 181, 0, 15, 42, 45, 3, 21, 4, 4, 120, 184, 0, 54]
abbrev dktJ8_init_2_3 : List UInt8 := dkwJ8_init_2_3 ++ dktJ8_init_2_4
def dkwJ8_init_2_2 : List UInt8 := [180, 4, 24, 153, 0, 28, 42, 45, 3, 21, 4, 184, 4, 27, 181, 0, 9, 42, 42, 180, 0, 9, 21, 4]
abbrev dktJ8_init_2_2 : List UInt8 := dkwJ8_init_2_2 ++ dktJ8_init_2_3
def dkwJ8_init_2_1 : List UInt8 := [181, 0, 15, 42, 45, 3, 21, 4, 184, 0, 54, 181, 0, 9, 167, 0, 59, 178, 0, 38, 153, 0, 35, 43]
abbrev dktJ8_init_2_1 : List UInt8 := dkwJ8_init_2_1 ++ dktJ8_init_2_2
def dkwJ8_init_2_0 : List UInt8 := [42, 183, 0, 1, 43, 182, 2, 40, 78, 43, 182, 2, 37, 54, 4, 43, 182, 4, 23, 153, 0, 22, 42, 3]
abbrev dktJ8_init_2_0 : List UInt8 := dkwJ8_init_2_0 ++ dktJ8_init_2_1
theorem dksJ8_init_2_0 : cJ8_init_2.data.toList.drop 0 = dktJ8_init_2_0 := by decide +kernel
theorem dksJ8_init_2_1 : cJ8_init_2.data.toList.drop 24 = dktJ8_init_2_1 := dk_seg dksJ8_init_2_0 24 rfl rfl
theorem dksJ8_init_2_2 : cJ8_init_2.data.toList.drop 48 = dktJ8_init_2_2 := dk_seg dksJ8_init_2_1 24 rfl rfl
theorem dksJ8_init_2_3 : cJ8_init_2.data.toList.drop 72 = dktJ8_init_2_3 := dk_seg dksJ8_init_2_2 24 rfl rfl
theorem dksJ8_init_2_4 : cJ8_init_2.data.toList.drop 94 = dktJ8_init_2_4 := dk_seg dksJ8_init_2_3 22 rfl rfl
theorem dJ8_init_2_0 : decode cJ8_init_2 0 = .ok (.aload_n 0, 1) := dk_42 (dk_at dksJ8_init_2_0 0 rfl rfl)
theorem dJ8_init_2_1 : decode cJ8_init_2 1 = .ok (.invokespecial 1, 3) := dk_183 0 1 (dk_at dksJ8_init_2_0 1 rfl rfl)
theorem dJ8_init_2_4 : decode cJ8_init_2 4 = .ok (.aload_n 1, 1) := dk_43 (dk_at dksJ8_init_2_0 4 rfl rfl)
theorem dJ8_init_2_5 : decode cJ8_init_2 5 = .ok (.invokevirtual 552, 3) := dk_182 2 40 (dk_at dksJ8_init_2_0 5 rfl rfl)
theorem dJ8_init_2_8 : decode cJ8_init_2 8 = .ok (.astore_n 3, 1) := dk_78 (dk_at dksJ8_init_2_0 8 rfl rfl)
theorem dJ8_init_2_9 : decode cJ8_init_2 9 = .ok (.aload_n 1, 1) := dk_43 (dk_at dksJ8_init_2_0 9 rfl rfl)
theorem dJ8_init_2_10 : decode cJ8_init_2 10 = .ok (.invokevirtual 549, 3) := dk_182 2 37 (dk_at dksJ8_init_2_0 10 rfl rfl)
theorem dJ8_init_2_13 : decode cJ8_init_2 13 = .ok (.istore 4, 2) := dk_54 4 (dk_at dksJ8_init_2_0 13 rfl rfl)
theorem dJ8_init_2_15 : decode cJ8_init_2 15 = .ok (.aload_n 1, 1) := dk_43 (dk_at dksJ8_init_2_0 15 rfl rfl)
theorem dJ8_init_2_16 : decode cJ8_init_2 16 = .ok (.invokevirtual 1047, 3) := dk_182 4 23 (dk_at dksJ8_init_2_0 16 rfl rfl)
theorem dJ8_init_2_19 : decode cJ8_init_2 19 = .ok (.ifCond .eq 22, 3) := dk_153 0 22 (dk_at dksJ8_init_2_0 19 rfl rfl)
theorem dJ8_init_2_22 : decode cJ8_init_2 22 = .ok (.aload_n 0, 1) := dk_42 (dk_at dksJ8_init_2_0 22 rfl rfl)
theorem dJ8_init_2_23 : decode cJ8_init_2 23 = .ok (.iconst 0, 1) := dk_3 (dk_at dksJ8_init_2_0 23 rfl rfl)
theorem dJ8_init_2_24 : decode cJ8_init_2 24 = .ok (.putfield 15, 3) := dk_181 0 15 (dk_at dksJ8_init_2_1 0 rfl rfl)
theorem dJ8_init_2_27 : decode cJ8_init_2 27 = .ok (.aload_n 0, 1) := dk_42 (dk_at dksJ8_init_2_1 3 rfl rfl)
theorem dJ8_init_2_28 : decode cJ8_init_2 28 = .ok (.aload_n 3, 1) := dk_45 (dk_at dksJ8_init_2_1 4 rfl rfl)
theorem dJ8_init_2_29 : decode cJ8_init_2 29 = .ok (.iconst 0, 1) := dk_3 (dk_at dksJ8_init_2_1 5 rfl rfl)
theorem dJ8_init_2_30 : decode cJ8_init_2 30 = .ok (.iload 4, 2) := dk_21 4 (dk_at dksJ8_init_2_1 6 rfl rfl)
theorem dJ8_init_2_32 : decode cJ8_init_2 32 = .ok (.invokestatic 54, 3) := dk_184 0 54 (dk_at dksJ8_init_2_1 8 rfl rfl)
theorem dJ8_init_2_35 : decode cJ8_init_2 35 = .ok (.putfield 9, 3) := dk_181 0 9 (dk_at dksJ8_init_2_1 11 rfl rfl)
theorem dJ8_init_2_38 : decode cJ8_init_2 38 = .ok (.goto 59, 3) := dk_167 0 59 (dk_at dksJ8_init_2_1 14 rfl rfl)
theorem dJ8_init_2_41 : decode cJ8_init_2 41 = .ok (.getstatic 38, 3) := dk_178 0 38 (dk_at dksJ8_init_2_1 17 rfl rfl)
theorem dJ8_init_2_44 : decode cJ8_init_2 44 = .ok (.ifCond .eq 35, 3) := dk_153 0 35 (dk_at dksJ8_init_2_1 20 rfl rfl)
theorem dJ8_init_2_47 : decode cJ8_init_2 47 = .ok (.aload_n 1, 1) := dk_43 (dk_at dksJ8_init_2_1 23 rfl rfl)
theorem dJ8_init_2_48 : decode cJ8_init_2 48 = .ok (.getfield 1048, 3) := dk_180 4 24 (dk_at dksJ8_init_2_2 0 rfl rfl)
theorem dJ8_init_2_51 : decode cJ8_init_2 51 = .ok (.ifCond .eq 28, 3) := dk_153 0 28 (dk_at dksJ8_init_2_2 3 rfl rfl)
theorem dJ8_init_2_54 : decode cJ8_init_2 54 = .ok (.aload_n 0, 1) := dk_42 (dk_at dksJ8_init_2_2 6 rfl rfl)
theorem dJ8_init_2_55 : decode cJ8_init_2 55 = .ok (.aload_n 3, 1) := dk_45 (dk_at dksJ8_init_2_2 7 rfl rfl)
theorem dJ8_init_2_56 : decode cJ8_init_2 56 = .ok (.iconst 0, 1) := dk_3 (dk_at dksJ8_init_2_2 8 rfl rfl)
theorem dJ8_init_2_57 : decode cJ8_init_2 57 = .ok (.iload 4, 2) := dk_21 4 (dk_at dksJ8_init_2_2 9 rfl rfl)
theorem dJ8_init_2_59 : decode cJ8_init_2 59 = .ok (.invokestatic 1051, 3) := dk_184 4 27 (dk_at dksJ8_init_2_2 11 rfl rfl)
theorem dJ8_init_2_62 : decode cJ8_init_2 62 = .ok (.putfield 9, 3) := dk_181 0 9 (dk_at dksJ8_init_2_2 14 rfl rfl)
theorem dJ8_init_2_65 : decode cJ8_init_2 65 = .ok (.aload_n 0, 1) := dk_42 (dk_at dksJ8_init_2_2 17 rfl rfl)
theorem dJ8_init_2_66 : decode cJ8_init_2 66 = .ok (.aload_n 0, 1) := dk_42 (dk_at dksJ8_init_2_2 18 rfl rfl)
theorem dJ8_init_2_67 : decode cJ8_init_2 67 = .ok (.getfield 9, 3) := dk_180 0 9 (dk_at dksJ8_init_2_2 19 rfl rfl)
theorem dJ8_init_2_70 : decode cJ8_init_2 70 = .ok (.iload 4, 2) := dk_21 4 (dk_at dksJ8_init_2_2 22 rfl rfl)
theorem dJ8_init_2_72 : decode cJ8_init_2 72 = .ok (.invokestatic 47, 3) := dk_184 0 47 (dk_at dksJ8_init_2_3 0 rfl rfl)
theorem dJ8_init_2_75 : decode cJ8_init_2 75 = .ok (.putfield 15, 3) := dk_181 0 15 (dk_at dksJ8_init_2_3 3 rfl rfl)
theorem dJ8_init_2_78 : decode cJ8_init_2 78 = .ok (.return_, 1) := dk_177 (dk_at dksJ8_init_2_3 6 rfl rfl)
theorem dJ8_init_2_79 : decode cJ8_init_2 79 = .ok (.aload_n 0, 1) := dk_42 (dk_at dksJ8_init_2_3 7 rfl rfl)
theorem dJ8_init_2_80 : decode cJ8_init_2 80 = .ok (.iconst 1, 1) := dk_4 (dk_at dksJ8_init_2_3 8 rfl rfl)
theorem dJ8_init_2_81 : decode cJ8_init_2 81 = .ok (.putfield 15, 3) := dk_181 0 15 (dk_at dksJ8_init_2_3 9 rfl rfl)
theorem dJ8_init_2_84 : decode cJ8_init_2 84 = .ok (.aload_n 0, 1) := dk_42 (dk_at dksJ8_init_2_3 12 rfl rfl)
theorem dJ8_init_2_85 : decode cJ8_init_2 85 = .ok (.aload_n 3, 1) := dk_45 (dk_at dksJ8_init_2_3 13 rfl rfl)
theorem dJ8_init_2_86 : decode cJ8_init_2 86 = .ok (.iconst 0, 1) := dk_3 (dk_at dksJ8_init_2_3 14 rfl rfl)
theorem dJ8_init_2_87 : decode cJ8_init_2 87 = .ok (.iload 4, 2) := dk_21 4 (dk_at dksJ8_init_2_3 15 rfl rfl)
theorem dJ8_init_2_89 : decode cJ8_init_2 89 = .ok (.iconst 1, 1) := dk_4 (dk_at dksJ8_init_2_3 17 rfl rfl)
theorem dJ8_init_2_90 : decode cJ8_init_2 90 = .ok (.ishl, 1) := dk_120 (dk_at dksJ8_init_2_3 18 rfl rfl)
theorem dJ8_init_2_91 : decode cJ8_init_2 91 = .ok (.invokestatic 54, 3) := dk_184 0 54 (dk_at dksJ8_init_2_3 19 rfl rfl)
theorem dJ8_init_2_94 : decode cJ8_init_2 94 = .ok (.putfield 9, 3) := dk_181 0 9 (dk_at dksJ8_init_2_4 0 rfl rfl)
theorem dJ8_init_2_97 : decode cJ8_init_2 97 = .ok (.return_, 1) := dk_177 (dk_at dksJ8_init_2_4 3 rfl rfl)
abbrev cJ8_length : ByteArray := prog_23_method_54_code
def yJ8_length : MethodName := ⟨RJ8, "length", "()I"⟩
def dkwJ8_length_0 : List UInt8 := [42, 180, 0, 9, 190, 42, 182, 1, 79, 122, 172]
abbrev dktJ8_length_0 : List UInt8 := dkwJ8_length_0 ++ []
theorem dksJ8_length_0 : cJ8_length.data.toList.drop 0 = dktJ8_length_0 := by decide +kernel
theorem dJ8_length_0 : decode cJ8_length 0 = .ok (.aload_n 0, 1) := dk_42 (dk_at dksJ8_length_0 0 rfl rfl)
theorem dJ8_length_1 : decode cJ8_length 1 = .ok (.getfield 9, 3) := dk_180 0 9 (dk_at dksJ8_length_0 1 rfl rfl)
theorem dJ8_length_4 : decode cJ8_length 4 = .ok (.arraylength, 1) := dk_190 (dk_at dksJ8_length_0 4 rfl rfl)
theorem dJ8_length_5 : decode cJ8_length 5 = .ok (.aload_n 0, 1) := dk_42 (dk_at dksJ8_length_0 5 rfl rfl)
theorem dJ8_length_6 : decode cJ8_length 6 = .ok (.invokevirtual 335, 3) := dk_182 1 79 (dk_at dksJ8_length_0 6 rfl rfl)
theorem dJ8_length_9 : decode cJ8_length 9 = .ok (.ishr, 1) := dk_122 (dk_at dksJ8_length_0 9 rfl rfl)
theorem dJ8_length_10 : decode cJ8_length 10 = .ok (.ireturn, 1) := dk_172 (dk_at dksJ8_length_0 10 rfl rfl)
abbrev cJ8_charAt : ByteArray := prog_23_method_56_code
def yJ8_charAt : MethodName := ⟨RJ8, "charAt", "(I)C"⟩
def dkwJ8_charAt_1 : List UInt8 := [172]
abbrev dktJ8_charAt_1 : List UInt8 := dkwJ8_charAt_1 ++ []
def dkwJ8_charAt_0 : List UInt8 := [42, 182, 1, 236, 153, 0, 12, 42, 180, 0, 9, 27, 184, 1, 239, 172, 42, 180, 0, 9, 27, 184, 1, 242]
abbrev dktJ8_charAt_0 : List UInt8 := dkwJ8_charAt_0 ++ dktJ8_charAt_1
theorem dksJ8_charAt_0 : cJ8_charAt.data.toList.drop 0 = dktJ8_charAt_0 := by decide +kernel
theorem dksJ8_charAt_1 : cJ8_charAt.data.toList.drop 24 = dktJ8_charAt_1 := dk_seg dksJ8_charAt_0 24 rfl rfl
theorem dJ8_charAt_0 : decode cJ8_charAt 0 = .ok (.aload_n 0, 1) := dk_42 (dk_at dksJ8_charAt_0 0 rfl rfl)
theorem dJ8_charAt_1 : decode cJ8_charAt 1 = .ok (.invokevirtual 492, 3) := dk_182 1 236 (dk_at dksJ8_charAt_0 1 rfl rfl)
theorem dJ8_charAt_4 : decode cJ8_charAt 4 = .ok (.ifCond .eq 12, 3) := dk_153 0 12 (dk_at dksJ8_charAt_0 4 rfl rfl)
theorem dJ8_charAt_7 : decode cJ8_charAt 7 = .ok (.aload_n 0, 1) := dk_42 (dk_at dksJ8_charAt_0 7 rfl rfl)
theorem dJ8_charAt_8 : decode cJ8_charAt 8 = .ok (.getfield 9, 3) := dk_180 0 9 (dk_at dksJ8_charAt_0 8 rfl rfl)
theorem dJ8_charAt_11 : decode cJ8_charAt 11 = .ok (.iload_n 1, 1) := dk_27 (dk_at dksJ8_charAt_0 11 rfl rfl)
theorem dJ8_charAt_12 : decode cJ8_charAt 12 = .ok (.invokestatic 495, 3) := dk_184 1 239 (dk_at dksJ8_charAt_0 12 rfl rfl)
theorem dJ8_charAt_15 : decode cJ8_charAt 15 = .ok (.ireturn, 1) := dk_172 (dk_at dksJ8_charAt_0 15 rfl rfl)
theorem dJ8_charAt_16 : decode cJ8_charAt 16 = .ok (.aload_n 0, 1) := dk_42 (dk_at dksJ8_charAt_0 16 rfl rfl)
theorem dJ8_charAt_17 : decode cJ8_charAt 17 = .ok (.getfield 9, 3) := dk_180 0 9 (dk_at dksJ8_charAt_0 17 rfl rfl)
theorem dJ8_charAt_20 : decode cJ8_charAt 20 = .ok (.iload_n 1, 1) := dk_27 (dk_at dksJ8_charAt_0 20 rfl rfl)
theorem dJ8_charAt_21 : decode cJ8_charAt 21 = .ok (.invokestatic 498, 3) := dk_184 1 242 (dk_at dksJ8_charAt_0 21 rfl rfl)
theorem dJ8_charAt_24 : decode cJ8_charAt 24 = .ok (.ireturn, 1) := dk_172 (dk_at dksJ8_charAt_1 0 rfl rfl)
theorem q42 : (Jvm.Cond.initialized "java/lang/String") ∈ lw_all := lw_g (lw_at lw_m1 12 rfl) rfl
theorem q263 : (Jvm.Cond.laysStatic "java/lang/String" "COMPACT_STRINGS" "Z") ∈ lw_tbl := lw_at lw_m1 233 rfl
theorem q274 : (Jvm.Cond.fieldLink "java/lang/String" (1048 : Nat) "java/lang/AbstractStringBuilder" "maybeLatin1" "Z") ∈ lw_all := lw_g (lw_at lw_m2 4 rfl) rfl
theorem q543 : (Jvm.Cond.selects "java/lang/String" ({ cls := "java/lang/Object", name := "getClass", desc := "()Ljava/lang/Class;" } : Jvm.MethodName) ({ cls := "java/lang/Object", name := "getClass", desc := "()Ljava/lang/Class;" } : Jvm.MethodName)) ∈ lw_all := lw_g (lw_at lw_m3 33 rfl) rfl
theorem q834 : (Jvm.Cond.selects "java/lang/String" ({ cls := "java/lang/Object", name := "hashCode", desc := "()I" } : Jvm.MethodName) ({ cls := "java/lang/String", name := "hashCode", desc := "()I" } : Jvm.MethodName)) ∈ lw_all := lw_g (lw_at lw_m4 84 rfl) rfl
theorem q835 : (Jvm.Cond.instanceMethod ({ cls := "java/lang/String", name := "hashCode", desc := "()I" } : Jvm.MethodName)) ∈ lw_all := lw_g (lw_at lw_m4 85 rfl) rfl
theorem q836 : (Jvm.Cond.code ({ cls := "java/lang/String", name := "hashCode", desc := "()I" } : Jvm.MethodName) prog_23_method_78_code (2 : Nat) (Option.some Jvm.ClassFile.FieldType.int)) ∈ lw_all := lw_g (lw_at lw_m4 86 rfl) rfl
theorem q837 : (Jvm.Cond.methodLink "java/lang/String" (492 : Nat) ({ cls := "java/lang/String", name := "isLatin1", desc := "()Z" } : Jvm.MethodName)) ∈ lw_all := lw_g (lw_at lw_m4 87 rfl) rfl
theorem q838 : (Jvm.Cond.instanceMethod ({ cls := "java/lang/String", name := "isLatin1", desc := "()Z" } : Jvm.MethodName)) ∈ lw_all := lw_g (lw_at lw_m4 88 rfl) rfl
theorem q839 : (Jvm.Cond.selects "java/lang/String" ({ cls := "java/lang/String", name := "isLatin1", desc := "()Z" } : Jvm.MethodName) ({ cls := "java/lang/String", name := "isLatin1", desc := "()Z" } : Jvm.MethodName)) ∈ lw_all := lw_g (lw_at lw_m4 89 rfl) rfl
theorem q840 : (Jvm.Cond.code ({ cls := "java/lang/String", name := "isLatin1", desc := "()Z" } : Jvm.MethodName) prog_23_method_154_code (1 : Nat) (Option.some Jvm.ClassFile.FieldType.boolean)) ∈ lw_all := lw_g (lw_at lw_m4 90 rfl) rfl
theorem q841 : (Jvm.Cond.fieldLink "java/lang/String" (38 : Nat) "java/lang/String" "COMPACT_STRINGS" "Z") ∈ lw_all := lw_g (lw_at lw_m4 91 rfl) rfl
theorem q842 : (Jvm.Cond.methodLink "java/lang/String" (628 : Nat) ({ cls := "java/lang/StringLatin1", name := "hashCode", desc := "([B)I" } : Jvm.MethodName)) ∈ lw_all := lw_g (lw_at lw_m4 92 rfl) rfl
theorem q894 : (Jvm.Cond.methodLink "java/lang/String" (632 : Nat) ({ cls := "java/lang/StringUTF16", name := "hashCode", desc := "([B)I" } : Jvm.MethodName)) ∈ lw_all := lw_g (lw_at lw_m4 144 rfl) rfl
theorem q1031 : (Jvm.Cond.castable "java/lang/String" "java/lang/Comparable") ∈ lw_tbl := lw_at lw_m5 41 rfl
theorem q1032 : (Jvm.Cond.selects "java/lang/String" ({ cls := "java/lang/Comparable", name := "compareTo", desc := "(Ljava/lang/Object;)I" } : Jvm.MethodName) ({ cls := "java/lang/String", name := "compareTo", desc := "(Ljava/lang/Object;)I" } : Jvm.MethodName)) ∈ lw_all := lw_g (lw_at lw_m5 42 rfl) rfl
theorem q1033 : (Jvm.Cond.unhidden "java/lang/String" "compareTo" "(Ljava/lang/Object;)I") ∈ lw_tbl := lw_at lw_m5 43 rfl
theorem q1034 : (Jvm.Cond.instanceMethod ({ cls := "java/lang/String", name := "compareTo", desc := "(Ljava/lang/Object;)I" } : Jvm.MethodName)) ∈ lw_all := lw_g (lw_at lw_m5 44 rfl) rfl
theorem q1035 : (Jvm.Cond.publicMethod ({ cls := "java/lang/String", name := "compareTo", desc := "(Ljava/lang/Object;)I" } : Jvm.MethodName)) ∈ lw_tbl := lw_at lw_m5 45 rfl
theorem q1036 : (Jvm.Cond.code ({ cls := "java/lang/String", name := "compareTo", desc := "(Ljava/lang/Object;)I" } : Jvm.MethodName) prog_23_method_162_code (2 : Nat) (Option.some Jvm.ClassFile.FieldType.int)) ∈ lw_all := lw_g (lw_at lw_m5 46 rfl) rfl
theorem q1037 : (Jvm.Cond.classLink "java/lang/String" (10 : Nat) "java/lang/String") ∈ lw_all := lw_g (lw_at lw_m5 47 rfl) rfl
theorem q1038 : (Jvm.Cond.methodLink "java/lang/String" (1084 : Nat) ({ cls := "java/lang/String", name := "compareTo", desc := "(Ljava/lang/String;)I" } : Jvm.MethodName)) ∈ lw_all := lw_g (lw_at lw_m5 48 rfl) rfl
theorem q1039 : (Jvm.Cond.instanceMethod ({ cls := "java/lang/String", name := "compareTo", desc := "(Ljava/lang/String;)I" } : Jvm.MethodName)) ∈ lw_all := lw_g (lw_at lw_m5 49 rfl) rfl
theorem q1040 : (Jvm.Cond.selects "java/lang/String" ({ cls := "java/lang/String", name := "compareTo", desc := "(Ljava/lang/String;)I" } : Jvm.MethodName) ({ cls := "java/lang/String", name := "compareTo", desc := "(Ljava/lang/String;)I" } : Jvm.MethodName)) ∈ lw_all := lw_g (lw_at lw_m5 50 rfl) rfl
theorem q1041 : (Jvm.Cond.code ({ cls := "java/lang/String", name := "compareTo", desc := "(Ljava/lang/String;)I" } : Jvm.MethodName) prog_23_method_71_code (5 : Nat) (Option.some Jvm.ClassFile.FieldType.int)) ∈ lw_all := lw_g (lw_at lw_m5 51 rfl) rfl
theorem q1042 : (Jvm.Cond.methodLink "java/lang/String" (335 : Nat) ({ cls := "java/lang/String", name := "coder", desc := "()B" } : Jvm.MethodName)) ∈ lw_all := lw_g (lw_at lw_m5 52 rfl) rfl
theorem q1043 : (Jvm.Cond.instanceMethod ({ cls := "java/lang/String", name := "coder", desc := "()B" } : Jvm.MethodName)) ∈ lw_all := lw_g (lw_at lw_m5 53 rfl) rfl
theorem q1044 : (Jvm.Cond.selects "java/lang/String" ({ cls := "java/lang/String", name := "coder", desc := "()B" } : Jvm.MethodName) ({ cls := "java/lang/String", name := "coder", desc := "()B" } : Jvm.MethodName)) ∈ lw_all := lw_g (lw_at lw_m5 54 rfl) rfl
theorem q1045 : (Jvm.Cond.code ({ cls := "java/lang/String", name := "coder", desc := "()B" } : Jvm.MethodName) prog_23_method_152_code (1 : Nat) (Option.some Jvm.ClassFile.FieldType.byte)) ∈ lw_all := lw_g (lw_at lw_m5 55 rfl) rfl
theorem q1046 : (Jvm.Cond.methodLink "java/lang/String" (586 : Nat) ({ cls := "java/lang/StringLatin1", name := "compareTo", desc := "([B[B)I" } : Jvm.MethodName)) ∈ lw_all := lw_g (lw_at lw_m5 56 rfl) rfl
theorem q1160 : (Jvm.Cond.methodLink "java/lang/String" (590 : Nat) ({ cls := "java/lang/StringUTF16", name := "compareTo", desc := "([B[B)I" } : Jvm.MethodName)) ∈ lw_all := lw_g (lw_at lw_m5 170 rfl) rfl
theorem q1167 : (Jvm.Cond.methodLink "java/lang/String" (591 : Nat) ({ cls := "java/lang/StringLatin1", name := "compareToUTF16", desc := "([B[B)I" } : Jvm.MethodName)) ∈ lw_all := lw_g (lw_at lw_m5 177 rfl) rfl
theorem q1178 : (Jvm.Cond.methodLink "java/lang/String" (594 : Nat) ({ cls := "java/lang/StringUTF16", name := "compareToLatin1", desc := "([B[B)I" } : Jvm.MethodName)) ∈ lw_all := lw_g (lw_at lw_m5 188 rfl) rfl
theorem q1209 : (Jvm.Cond.static ({ cls := "java/lang/String", name := "checkOffset", desc := "(II)V" } : Jvm.MethodName)) ∈ lw_all := lw_g (lw_at lw_m5 219 rfl) rfl
theorem q1210 : (Jvm.Cond.code ({ cls := "java/lang/String", name := "checkOffset", desc := "(II)V" } : Jvm.MethodName) prog_23_method_156_code (2 : Nat) (Option.none : Option Jvm.ClassFile.FieldType)) ∈ lw_all := lw_g (lw_at lw_m5 220 rfl) rfl
theorem q1211 : (Jvm.Cond.fieldLink "java/lang/String" (1053 : Nat) "jdk/internal/util/Preconditions" "SIOOBE_FORMATTER" "Ljava/util/function/BiFunction;") ∈ lw_all := lw_g (lw_at lw_m5 221 rfl) rfl
theorem q1213 : (Jvm.Cond.methodLink "java/lang/String" (1062 : Nat) ({ cls := "jdk/internal/util/Preconditions", name := "checkFromToIndex", desc := "(IIILjava/util/function/BiFunction;)I" } : Jvm.MethodName)) ∈ lw_all := lw_g (lw_at lw_m5 223 rfl) rfl
theorem q1273 : (Jvm.Cond.selects "java/lang/String" ({ cls := "java/lang/Object", name := "equals", desc := "(Ljava/lang/Object;)Z" } : Jvm.MethodName) ({ cls := "java/lang/String", name := "equals", desc := "(Ljava/lang/Object;)Z" } : Jvm.MethodName)) ∈ lw_all := lw_g (lw_at lw_m6 43 rfl) rfl
theorem q1274 : (Jvm.Cond.instanceMethod ({ cls := "java/lang/String", name := "equals", desc := "(Ljava/lang/Object;)Z" } : Jvm.MethodName)) ∈ lw_all := lw_g (lw_at lw_m6 44 rfl) rfl
theorem q1275 : (Jvm.Cond.code ({ cls := "java/lang/String", name := "equals", desc := "(Ljava/lang/Object;)Z" } : Jvm.MethodName) prog_23_method_66_code (3 : Nat) (Option.some Jvm.ClassFile.FieldType.boolean)) ∈ lw_all := lw_g (lw_at lw_m6 45 rfl) rfl
theorem q1276 : (Jvm.Cond.methodLink "java/lang/String" (541 : Nat) ({ cls := "java/lang/StringLatin1", name := "equals", desc := "([B[B)Z" } : Jvm.MethodName)) ∈ lw_all := lw_g (lw_at lw_m6 46 rfl) rfl
theorem q1588 : (Jvm.Cond.static ({ cls := "java/lang/String", name := "checkBoundsOffCount", desc := "(III)I" } : Jvm.MethodName)) ∈ lw_all := lw_g (lw_at lw_m7 118 rfl) rfl
theorem q1589 : (Jvm.Cond.code ({ cls := "java/lang/String", name := "checkBoundsOffCount", desc := "(III)I" } : Jvm.MethodName) prog_23_method_157_code (3 : Nat) (Option.some Jvm.ClassFile.FieldType.int)) ∈ lw_all := lw_g (lw_at lw_m7 119 rfl) rfl
theorem q1590 : (Jvm.Cond.methodLink "java/lang/String" (1065 : Nat) ({ cls := "jdk/internal/util/Preconditions", name := "checkFromIndexSize", desc := "(IIILjava/util/function/BiFunction;)I" } : Jvm.MethodName)) ∈ lw_all := lw_g (lw_at lw_m7 120 rfl) rfl
theorem q1603 : (Jvm.Cond.static ({ cls := "java/lang/String", name := "checkIndex", desc := "(II)V" } : Jvm.MethodName)) ∈ lw_all := lw_g (lw_at lw_m7 133 rfl) rfl
theorem q1604 : (Jvm.Cond.code ({ cls := "java/lang/String", name := "checkIndex", desc := "(II)V" } : Jvm.MethodName) prog_23_method_155_code (2 : Nat) (Option.none : Option Jvm.ClassFile.FieldType)) ∈ lw_all := lw_g (lw_at lw_m7 134 rfl) rfl
theorem q1605 : (Jvm.Cond.methodLink "java/lang/String" (1059 : Nat) ({ cls := "jdk/internal/util/Preconditions", name := "checkIndex", desc := "(IILjava/util/function/BiFunction;)I" } : Jvm.MethodName)) ∈ lw_all := lw_g (lw_at lw_m7 135 rfl) rfl
theorem q1692 : (Jvm.Cond.instantiable "java/lang/String" (4 : Nat)) ∈ lw_all := lw_g (lw_at lw_m7 222 rfl) rfl
theorem q1694 : (Jvm.Cond.instanceMethod ({ cls := "java/lang/String", name := "<init>", desc := "(Ljava/lang/StringBuilder;)V" } : Jvm.MethodName)) ∈ lw_all := lw_g (lw_at lw_m7 224 rfl) rfl
theorem q1695 : (Jvm.Cond.code ({ cls := "java/lang/String", name := "<init>", desc := "(Ljava/lang/StringBuilder;)V" } : Jvm.MethodName) prog_23_method_53_code (2 : Nat) (Option.none : Option Jvm.ClassFile.FieldType)) ∈ lw_all := lw_g (lw_at lw_m7 225 rfl) rfl
theorem q1696 : (Jvm.Cond.methodLink "java/lang/String" (489 : Nat) ({ cls := "java/lang/String", name := "<init>", desc := "(Ljava/lang/AbstractStringBuilder;Ljava/lang/Void;)V" } : Jvm.MethodName)) ∈ lw_all := lw_g (lw_at lw_m7 226 rfl) rfl
theorem q1697 : (Jvm.Cond.instanceMethod ({ cls := "java/lang/String", name := "<init>", desc := "(Ljava/lang/AbstractStringBuilder;Ljava/lang/Void;)V" } : Jvm.MethodName)) ∈ lw_all := lw_g (lw_at lw_m7 227 rfl) rfl
theorem q1698 : (Jvm.Cond.code ({ cls := "java/lang/String", name := "<init>", desc := "(Ljava/lang/AbstractStringBuilder;Ljava/lang/Void;)V" } : Jvm.MethodName) prog_23_method_150_code (5 : Nat) (Option.none : Option Jvm.ClassFile.FieldType)) ∈ lw_all := lw_g (lw_at lw_m7 228 rfl) rfl
theorem q1699 : (Jvm.Cond.methodLink "java/lang/String" (1 : Nat) ({ cls := "java/lang/Object", name := "<init>", desc := "()V" } : Jvm.MethodName)) ∈ lw_all := lw_g (lw_at lw_m7 229 rfl) rfl
theorem q1700 : (Jvm.Cond.methodLink "java/lang/String" (552 : Nat) ({ cls := "java/lang/AbstractStringBuilder", name := "getValue", desc := "()[B" } : Jvm.MethodName)) ∈ lw_all := lw_g (lw_at lw_m7 230 rfl) rfl
theorem q1705 : (Jvm.Cond.methodLink "java/lang/String" (549 : Nat) ({ cls := "java/lang/AbstractStringBuilder", name := "length", desc := "()I" } : Jvm.MethodName)) ∈ lw_all := lw_g (lw_at lw_m7 235 rfl) rfl
theorem q1706 : (Jvm.Cond.methodLink "java/lang/String" (1047 : Nat) ({ cls := "java/lang/AbstractStringBuilder", name := "isLatin1", desc := "()Z" } : Jvm.MethodName)) ∈ lw_all := lw_g (lw_at lw_m7 236 rfl) rfl
theorem q1707 : (Jvm.Cond.methodLink "java/lang/String" (54 : Nat) ({ cls := "java/util/Arrays", name := "copyOfRange", desc := "([BII)[B" } : Jvm.MethodName)) ∈ lw_all := lw_g (lw_at lw_m7 237 rfl) rfl
theorem q1716 : (Jvm.Cond.methodLink "java/lang/String" (1051 : Nat) ({ cls := "java/lang/StringUTF16", name := "compress", desc := "([BII)[B" } : Jvm.MethodName)) ∈ lw_all := lw_g (lw_at lw_m8 6 rfl) rfl
theorem q1723 : (Jvm.Cond.methodLink "java/lang/String" (47 : Nat) ({ cls := "java/lang/StringUTF16", name := "coderFromArrayLen", desc := "([BI)B" } : Jvm.MethodName)) ∈ lw_all := lw_g (lw_at lw_m8 13 rfl) rfl
theorem q1726 : (Jvm.Cond.fieldLink "java/lang/String" (9 : Nat) "java/lang/String" "value" "[B") ∈ lw_all := lw_g (lw_at lw_m8 16 rfl) rfl
theorem q1727 : (Jvm.Cond.fieldLink "java/lang/String" (15 : Nat) "java/lang/String" "coder" "B") ∈ lw_all := lw_g (lw_at lw_m8 17 rfl) rfl
theorem q1728 : (Jvm.Cond.fieldLink "java/lang/String" (19 : Nat) "java/lang/String" "hash" "I") ∈ lw_all := lw_g (lw_at lw_m8 18 rfl) rfl
theorem q1729 : (Jvm.Cond.fieldLink "java/lang/String" (23 : Nat) "java/lang/String" "hashIsZero" "Z") ∈ lw_all := lw_g (lw_at lw_m8 19 rfl) rfl
theorem q1730 : (Jvm.Cond.laysFinal "java/lang/String" "java/lang/String" "value" "[B") ∈ lw_all := lw_g (lw_at lw_m8 20 rfl) rfl
theorem q1731 : (Jvm.Cond.soleField "java/lang/String" "value") ∈ lw_all := lw_g (lw_at lw_m8 21 rfl) rfl
theorem q1732 : (Jvm.Cond.laysFinal "java/lang/String" "java/lang/String" "coder" "B") ∈ lw_all := lw_g (lw_at lw_m8 22 rfl) rfl
theorem q1733 : (Jvm.Cond.soleField "java/lang/String" "coder") ∈ lw_all := lw_g (lw_at lw_m8 23 rfl) rfl
theorem q1734 : (Jvm.Cond.lays "java/lang/String" "java/lang/String" "hash" "I") ∈ lw_all := lw_g (lw_at lw_m8 24 rfl) rfl
theorem q1735 : (Jvm.Cond.soleField "java/lang/String" "hash") ∈ lw_all := lw_g (lw_at lw_m8 25 rfl) rfl
theorem q1736 : (Jvm.Cond.lays "java/lang/String" "java/lang/String" "hashIsZero" "Z") ∈ lw_all := lw_g (lw_at lw_m8 26 rfl) rfl
theorem q1737 : (Jvm.Cond.soleField "java/lang/String" "hashIsZero") ∈ lw_all := lw_g (lw_at lw_m8 27 rfl) rfl
theorem q1738 : (Jvm.Cond.superclass "java/lang/String" "java/lang/Object") ∈ lw_all := lw_g (lw_at lw_m8 28 rfl) rfl
theorem q1858 : (Jvm.Cond.castable "java/lang/String" "java/lang/CharSequence") ∈ lw_tbl := lw_at lw_m8 148 rfl
theorem q1859 : (Jvm.Cond.selects "java/lang/String" ({ cls := "java/lang/CharSequence", name := "length", desc := "()I" } : Jvm.MethodName) ({ cls := "java/lang/String", name := "length", desc := "()I" } : Jvm.MethodName)) ∈ lw_all := lw_g (lw_at lw_m8 149 rfl) rfl
theorem q1860 : (Jvm.Cond.unhidden "java/lang/String" "length" "()I") ∈ lw_tbl := lw_at lw_m8 150 rfl
theorem q1861 : (Jvm.Cond.instanceMethod ({ cls := "java/lang/String", name := "length", desc := "()I" } : Jvm.MethodName)) ∈ lw_all := lw_g (lw_at lw_m8 151 rfl) rfl
theorem q1862 : (Jvm.Cond.publicMethod ({ cls := "java/lang/String", name := "length", desc := "()I" } : Jvm.MethodName)) ∈ lw_tbl := lw_at lw_m8 152 rfl
theorem q1863 : (Jvm.Cond.code ({ cls := "java/lang/String", name := "length", desc := "()I" } : Jvm.MethodName) prog_23_method_54_code (1 : Nat) (Option.some Jvm.ClassFile.FieldType.int)) ∈ lw_all := lw_g (lw_at lw_m8 153 rfl) rfl
theorem q1875 : (Jvm.Cond.selects "java/lang/String" ({ cls := "java/lang/CharSequence", name := "charAt", desc := "(I)C" } : Jvm.MethodName) ({ cls := "java/lang/String", name := "charAt", desc := "(I)C" } : Jvm.MethodName)) ∈ lw_all := lw_g (lw_at lw_m8 165 rfl) rfl
theorem q1876 : (Jvm.Cond.unhidden "java/lang/String" "charAt" "(I)C") ∈ lw_tbl := lw_at lw_m8 166 rfl
theorem q1877 : (Jvm.Cond.instanceMethod ({ cls := "java/lang/String", name := "charAt", desc := "(I)C" } : Jvm.MethodName)) ∈ lw_all := lw_g (lw_at lw_m8 167 rfl) rfl
theorem q1878 : (Jvm.Cond.publicMethod ({ cls := "java/lang/String", name := "charAt", desc := "(I)C" } : Jvm.MethodName)) ∈ lw_tbl := lw_at lw_m8 168 rfl
theorem q1879 : (Jvm.Cond.code ({ cls := "java/lang/String", name := "charAt", desc := "(I)C" } : Jvm.MethodName) prog_23_method_56_code (2 : Nat) (Option.some Jvm.ClassFile.FieldType.char)) ∈ lw_all := lw_g (lw_at lw_m8 169 rfl) rfl
theorem q1880 : (Jvm.Cond.methodLink "java/lang/String" (495 : Nat) ({ cls := "java/lang/StringLatin1", name := "charAt", desc := "([BI)C" } : Jvm.MethodName)) ∈ lw_all := lw_g (lw_at lw_m8 170 rfl) rfl
theorem q1884 : (Jvm.Cond.methodLink "java/lang/String" (498 : Nat) ({ cls := "java/lang/StringUTF16", name := "charAt", desc := "([BI)C" } : Jvm.MethodName)) ∈ lw_all := lw_g (lw_at lw_m8 174 rfl) rfl
theorem q2403 : (Jvm.Cond.selects "java/lang/String" ({ cls := "java/lang/String", name := "length", desc := "()I" } : Jvm.MethodName) ({ cls := "java/lang/String", name := "length", desc := "()I" } : Jvm.MethodName)) ∈ lw_all := lw_g (lw_at lw_m10 213 rfl) rfl
theorem q2404 : (Jvm.Cond.selects "java/lang/String" ({ cls := "java/lang/String", name := "charAt", desc := "(I)C" } : Jvm.MethodName) ({ cls := "java/lang/String", name := "charAt", desc := "(I)C" } : Jvm.MethodName)) ∈ lw_all := lw_g (lw_at lw_m10 214 rfl) rfl
theorem q2430 : (Jvm.Cond.castable "java/lang/String" "java/lang/Object") ∈ lw_tbl := lw_at lw_m11 0 rfl
theorem in_J8 : ∀ w ∈ wsJ80, w ∈ lw_all := lw_in wsJ80 [1730, 1732, 1734, 1736] (by decide +kernel) (by decide +kernel)
/-! java/lang/StringUTF16 -/
set_option maxRecDepth 100000
def RJ9 : String := "java/lang/StringUTF16"
abbrev cJ9_newBytesFor : ByteArray := prog_26_method_2_code
def yJ9_newBytesFor : MethodName := ⟨RJ9, "newBytesFor", "(I)[B"⟩
abbrev cJ9_newBytesLength : ByteArray := prog_26_method_3_code
def yJ9_newBytesLength : MethodName := ⟨RJ9, "newBytesLength", "(I)I"⟩
abbrev cJ9_getChar : ByteArray := prog_26_method_5_code
def yJ9_getChar : MethodName := ⟨RJ9, "getChar", "([BI)C"⟩
abbrev cJ9_length : ByteArray := prog_26_method_6_code
def yJ9_length : MethodName := ⟨RJ9, "length", "([B)I"⟩
abbrev cJ9_hashCode : ByteArray := prog_26_method_39_code
def yJ9_hashCode : MethodName := ⟨RJ9, "hashCode", "([B)I"⟩
abbrev cJ9_compareTo : ByteArray := prog_26_method_29_code
def yJ9_compareTo : MethodName := ⟨RJ9, "compareTo", "([B[B)I"⟩
abbrev cJ9_compareValues : ByteArray := prog_26_method_31_code
def yJ9_compareValues : MethodName := ⟨RJ9, "compareValues", "([B[BII)I"⟩
abbrev cJ9_compareToLatin1 : ByteArray := prog_26_method_32_code
def yJ9_compareToLatin1 : MethodName := ⟨RJ9, "compareToLatin1", "([B[B)I"⟩
abbrev cJ9_compareTo_2 : ByteArray := prog_26_method_30_code
def yJ9_compareTo_2 : MethodName := ⟨RJ9, "compareTo", "([B[BII)I"⟩
abbrev cJ9_checkOffset : ByteArray := prog_26_method_92_code
def yJ9_checkOffset : MethodName := ⟨RJ9, "checkOffset", "(I[B)V"⟩
abbrev cJ9_compareToLatin1_2 : ByteArray := prog_26_method_33_code
def yJ9_compareToLatin1_2 : MethodName := ⟨RJ9, "compareToLatin1", "([B[BII)I"⟩
abbrev cJ9_inflate : ByteArray := prog_26_method_86_code
def yJ9_inflate : MethodName := ⟨RJ9, "inflate", "([BI[BII)V"⟩
abbrev cJ9_checkBoundsOffCount : ByteArray := prog_26_method_94_code
def yJ9_checkBoundsOffCount : MethodName := ⟨RJ9, "checkBoundsOffCount", "(II[B)V"⟩
abbrev cJ9_putChar : ByteArray := prog_26_method_4_code
def yJ9_putChar : MethodName := ⟨RJ9, "putChar", "([BII)V"⟩
abbrev cJ9_putCharSB : ByteArray := prog_26_method_71_code
def yJ9_putCharSB : MethodName := ⟨RJ9, "putCharSB", "([BII)V"⟩
abbrev cJ9_checkIndex : ByteArray := prog_26_method_91_code
def yJ9_checkIndex : MethodName := ⟨RJ9, "checkIndex", "(I[B)V"⟩
abbrev cJ9_fillNull : ByteArray := prog_26_method_70_code
def yJ9_fillNull : MethodName := ⟨RJ9, "fillNull", "([BII)V"⟩
abbrev cJ9_compress : ByteArray := prog_26_method_17_code
def yJ9_compress : MethodName := ⟨RJ9, "compress", "([BII)[B"⟩
abbrev cJ9_compress_2 : ByteArray := prog_26_method_22_code
def yJ9_compress_2 : MethodName := ⟨RJ9, "compress", "([BI[BII)I"⟩
abbrev cJ9_coderFromArrayLen : ByteArray := prog_26_method_15_code
def yJ9_coderFromArrayLen : MethodName := ⟨RJ9, "coderFromArrayLen", "([BI)B"⟩
abbrev cJ9_charAt : ByteArray := prog_26_method_83_code
def yJ9_charAt : MethodName := ⟨RJ9, "charAt", "([BI)C"⟩
theorem q43 : (Jvm.Cond.initialized "java/lang/StringUTF16") ∈ lw_all := lw_g (lw_at lw_m1 13 rfl) rfl
theorem q265 : (Jvm.Cond.static ({ cls := "java/lang/StringUTF16", name := "newBytesFor", desc := "(I)[B" } : Jvm.MethodName)) ∈ lw_all := lw_g (lw_at lw_m1 235 rfl) rfl
theorem q266 : (Jvm.Cond.code ({ cls := "java/lang/StringUTF16", name := "newBytesFor", desc := "(I)[B" } : Jvm.MethodName) prog_26_method_2_code (1 : Nat) (Option.some (Jvm.ClassFile.FieldType.array Jvm.ClassFile.FieldType.byte))) ∈ lw_all := lw_g (lw_at lw_m1 236 rfl) rfl
theorem q267 : (Jvm.Cond.methodLink "java/lang/StringUTF16" (11 : Nat) ({ cls := "java/lang/StringUTF16", name := "newBytesLength", desc := "(I)I" } : Jvm.MethodName)) ∈ lw_all := lw_g (lw_at lw_m1 237 rfl) rfl
theorem q268 : (Jvm.Cond.static ({ cls := "java/lang/StringUTF16", name := "newBytesLength", desc := "(I)I" } : Jvm.MethodName)) ∈ lw_all := lw_g (lw_at lw_m1 238 rfl) rfl
theorem q269 : (Jvm.Cond.code ({ cls := "java/lang/StringUTF16", name := "newBytesLength", desc := "(I)I" } : Jvm.MethodName) prog_26_method_3_code (1 : Nat) (Option.some Jvm.ClassFile.FieldType.int)) ∈ lw_all := lw_g (lw_at lw_m1 239 rfl) rfl
theorem q270 : (Jvm.Cond.constant "java/lang/StringUTF16" (20 : Nat) (1073741823 : Int32)) ∈ lw_all := lw_g (lw_at lw_m2 0 rfl) rfl
theorem q868 : (Jvm.Cond.static ({ cls := "java/lang/StringUTF16", name := "getChar", desc := "([BI)C" } : Jvm.MethodName)) ∈ lw_all := lw_g (lw_at lw_m4 118 rfl) rfl
theorem q869 : (Jvm.Cond.code ({ cls := "java/lang/StringUTF16", name := "getChar", desc := "([BI)C" } : Jvm.MethodName) prog_26_method_5_code (2 : Nat) (Option.some Jvm.ClassFile.FieldType.char)) ∈ lw_all := lw_g (lw_at lw_m4 119 rfl) rfl
theorem q870 : (Jvm.Cond.fieldLink "java/lang/StringUTF16" (44 : Nat) "java/lang/StringUTF16" "$assertionsDisabled" "Z") ∈ lw_all := lw_g (lw_at lw_m4 120 rfl) rfl
theorem q871 : (Jvm.Cond.laysStatic "java/lang/StringUTF16" "$assertionsDisabled" "Z") ∈ lw_tbl := lw_at lw_m4 121 rfl
theorem q872 : (Jvm.Cond.methodLink "java/lang/StringUTF16" (48 : Nat) ({ cls := "java/lang/StringUTF16", name := "length", desc := "([B)I" } : Jvm.MethodName)) ∈ lw_all := lw_g (lw_at lw_m4 122 rfl) rfl
theorem q873 : (Jvm.Cond.static ({ cls := "java/lang/StringUTF16", name := "length", desc := "([B)I" } : Jvm.MethodName)) ∈ lw_all := lw_g (lw_at lw_m4 123 rfl) rfl
theorem q874 : (Jvm.Cond.code ({ cls := "java/lang/StringUTF16", name := "length", desc := "([B)I" } : Jvm.MethodName) prog_26_method_6_code (1 : Nat) (Option.some Jvm.ClassFile.FieldType.int)) ∈ lw_all := lw_g (lw_at lw_m4 124 rfl) rfl
theorem q875 : (Jvm.Cond.fieldLink "java/lang/StringUTF16" (59 : Nat) "java/lang/StringUTF16" "HI_BYTE_SHIFT" "I") ∈ lw_all := lw_g (lw_at lw_m4 125 rfl) rfl
theorem q876 : (Jvm.Cond.laysStatic "java/lang/StringUTF16" "HI_BYTE_SHIFT" "I") ∈ lw_tbl := lw_at lw_m4 126 rfl
theorem q877 : (Jvm.Cond.fieldLink "java/lang/StringUTF16" (63 : Nat) "java/lang/StringUTF16" "LO_BYTE_SHIFT" "I") ∈ lw_all := lw_g (lw_at lw_m4 127 rfl) rfl
theorem q878 : (Jvm.Cond.laysStatic "java/lang/StringUTF16" "LO_BYTE_SHIFT" "I") ∈ lw_tbl := lw_at lw_m4 128 rfl
theorem q895 : (Jvm.Cond.static ({ cls := "java/lang/StringUTF16", name := "hashCode", desc := "([B)I" } : Jvm.MethodName)) ∈ lw_all := lw_g (lw_at lw_m4 145 rfl) rfl
theorem q896 : (Jvm.Cond.code ({ cls := "java/lang/StringUTF16", name := "hashCode", desc := "([B)I" } : Jvm.MethodName) prog_26_method_39_code (1 : Nat) (Option.some Jvm.ClassFile.FieldType.int)) ∈ lw_all := lw_g (lw_at lw_m4 146 rfl) rfl
theorem q897 : (Jvm.Cond.methodLink "java/lang/StringUTF16" (71 : Nat) ({ cls := "java/lang/StringUTF16", name := "getChar", desc := "([BI)C" } : Jvm.MethodName)) ∈ lw_all := lw_g (lw_at lw_m4 147 rfl) rfl
theorem q898 : (Jvm.Cond.methodLink "java/lang/StringUTF16" (220 : Nat) ({ cls := "jdk/internal/util/ArraysSupport", name := "vectorizedHashCode", desc := "(Ljava/lang/Object;IIII)I" } : Jvm.MethodName)) ∈ lw_all := lw_g (lw_at lw_m4 148 rfl) rfl
theorem q1161 : (Jvm.Cond.static ({ cls := "java/lang/StringUTF16", name := "compareTo", desc := "([B[B)I" } : Jvm.MethodName)) ∈ lw_all := lw_g (lw_at lw_m5 171 rfl) rfl
theorem q1162 : (Jvm.Cond.code ({ cls := "java/lang/StringUTF16", name := "compareTo", desc := "([B[B)I" } : Jvm.MethodName) prog_26_method_29_code (4 : Nat) (Option.some Jvm.ClassFile.FieldType.int)) ∈ lw_all := lw_g (lw_at lw_m5 172 rfl) rfl
theorem q1163 : (Jvm.Cond.methodLink "java/lang/StringUTF16" (176 : Nat) ({ cls := "java/lang/StringUTF16", name := "compareValues", desc := "([B[BII)I" } : Jvm.MethodName)) ∈ lw_all := lw_g (lw_at lw_m5 173 rfl) rfl
theorem q1164 : (Jvm.Cond.static ({ cls := "java/lang/StringUTF16", name := "compareValues", desc := "([B[BII)I" } : Jvm.MethodName)) ∈ lw_all := lw_g (lw_at lw_m5 174 rfl) rfl
theorem q1165 : (Jvm.Cond.code ({ cls := "java/lang/StringUTF16", name := "compareValues", desc := "([B[BII)I" } : Jvm.MethodName) prog_26_method_31_code (8 : Nat) (Option.some Jvm.ClassFile.FieldType.int)) ∈ lw_all := lw_g (lw_at lw_m5 175 rfl) rfl
theorem q1166 : (Jvm.Cond.methodLink "java/lang/StringUTF16" (183 : Nat) ({ cls := "java/lang/Math", name := "min", desc := "(II)I" } : Jvm.MethodName)) ∈ lw_all := lw_g (lw_at lw_m5 176 rfl) rfl
theorem q1179 : (Jvm.Cond.static ({ cls := "java/lang/StringUTF16", name := "compareToLatin1", desc := "([B[B)I" } : Jvm.MethodName)) ∈ lw_all := lw_g (lw_at lw_m5 189 rfl) rfl
theorem q1180 : (Jvm.Cond.code ({ cls := "java/lang/StringUTF16", name := "compareToLatin1", desc := "([B[B)I" } : Jvm.MethodName) prog_26_method_32_code (2 : Nat) (Option.some Jvm.ClassFile.FieldType.int)) ∈ lw_all := lw_g (lw_at lw_m5 190 rfl) rfl
theorem q1181 : (Jvm.Cond.methodLink "java/lang/StringUTF16" (189 : Nat) ({ cls := "java/lang/StringLatin1", name := "compareToUTF16", desc := "([B[B)I" } : Jvm.MethodName)) ∈ lw_all := lw_g (lw_at lw_m5 191 rfl) rfl
theorem q1203 : (Jvm.Cond.static ({ cls := "java/lang/StringUTF16", name := "compareTo", desc := "([B[BII)I" } : Jvm.MethodName)) ∈ lw_all := lw_g (lw_at lw_m5 213 rfl) rfl
theorem q1204 : (Jvm.Cond.code ({ cls := "java/lang/StringUTF16", name := "compareTo", desc := "([B[BII)I" } : Jvm.MethodName) prog_26_method_30_code (4 : Nat) (Option.some Jvm.ClassFile.FieldType.int)) ∈ lw_all := lw_g (lw_at lw_m5 214 rfl) rfl
theorem q1205 : (Jvm.Cond.methodLink "java/lang/StringUTF16" (180 : Nat) ({ cls := "java/lang/StringUTF16", name := "checkOffset", desc := "(I[B)V" } : Jvm.MethodName)) ∈ lw_all := lw_g (lw_at lw_m5 215 rfl) rfl
theorem q1206 : (Jvm.Cond.static ({ cls := "java/lang/StringUTF16", name := "checkOffset", desc := "(I[B)V" } : Jvm.MethodName)) ∈ lw_all := lw_g (lw_at lw_m5 216 rfl) rfl
theorem q1207 : (Jvm.Cond.code ({ cls := "java/lang/StringUTF16", name := "checkOffset", desc := "(I[B)V" } : Jvm.MethodName) prog_26_method_92_code (2 : Nat) (Option.none : Option Jvm.ClassFile.FieldType)) ∈ lw_all := lw_g (lw_at lw_m5 217 rfl) rfl
theorem q1208 : (Jvm.Cond.methodLink "java/lang/StringUTF16" (417 : Nat) ({ cls := "java/lang/String", name := "checkOffset", desc := "(II)V" } : Jvm.MethodName)) ∈ lw_all := lw_g (lw_at lw_m5 218 rfl) rfl
theorem q1221 : (Jvm.Cond.static ({ cls := "java/lang/StringUTF16", name := "compareToLatin1", desc := "([B[BII)I" } : Jvm.MethodName)) ∈ lw_all := lw_g (lw_at lw_m5 231 rfl) rfl
theorem q1222 : (Jvm.Cond.code ({ cls := "java/lang/StringUTF16", name := "compareToLatin1", desc := "([B[BII)I" } : Jvm.MethodName) prog_26_method_33_code (4 : Nat) (Option.some Jvm.ClassFile.FieldType.int)) ∈ lw_all := lw_g (lw_at lw_m5 232 rfl) rfl
theorem q1223 : (Jvm.Cond.methodLink "java/lang/StringUTF16" (193 : Nat) ({ cls := "java/lang/StringLatin1", name := "compareToUTF16", desc := "([B[BII)I" } : Jvm.MethodName)) ∈ lw_all := lw_g (lw_at lw_m5 233 rfl) rfl
theorem q1582 : (Jvm.Cond.static ({ cls := "java/lang/StringUTF16", name := "inflate", desc := "([BI[BII)V" } : Jvm.MethodName)) ∈ lw_all := lw_g (lw_at lw_m7 112 rfl) rfl
theorem q1583 : (Jvm.Cond.code ({ cls := "java/lang/StringUTF16", name := "inflate", desc := "([BI[BII)V" } : Jvm.MethodName) prog_26_method_86_code (6 : Nat) (Option.none : Option Jvm.ClassFile.FieldType)) ∈ lw_all := lw_g (lw_at lw_m7 113 rfl) rfl
theorem q1584 : (Jvm.Cond.methodLink "java/lang/StringUTF16" (173 : Nat) ({ cls := "java/lang/StringUTF16", name := "checkBoundsOffCount", desc := "(II[B)V" } : Jvm.MethodName)) ∈ lw_all := lw_g (lw_at lw_m7 114 rfl) rfl
theorem q1585 : (Jvm.Cond.static ({ cls := "java/lang/StringUTF16", name := "checkBoundsOffCount", desc := "(II[B)V" } : Jvm.MethodName)) ∈ lw_all := lw_g (lw_at lw_m7 115 rfl) rfl
theorem q1586 : (Jvm.Cond.code ({ cls := "java/lang/StringUTF16", name := "checkBoundsOffCount", desc := "(II[B)V" } : Jvm.MethodName) prog_26_method_94_code (3 : Nat) (Option.none : Option Jvm.ClassFile.FieldType)) ∈ lw_all := lw_g (lw_at lw_m7 116 rfl) rfl
theorem q1587 : (Jvm.Cond.methodLink "java/lang/StringUTF16" (419 : Nat) ({ cls := "java/lang/String", name := "checkBoundsOffCount", desc := "(III)I" } : Jvm.MethodName)) ∈ lw_all := lw_g (lw_at lw_m7 117 rfl) rfl
theorem q1593 : (Jvm.Cond.methodLink "java/lang/StringUTF16" (111 : Nat) ({ cls := "java/lang/StringUTF16", name := "putChar", desc := "([BII)V" } : Jvm.MethodName)) ∈ lw_all := lw_g (lw_at lw_m7 123 rfl) rfl
theorem q1594 : (Jvm.Cond.static ({ cls := "java/lang/StringUTF16", name := "putChar", desc := "([BII)V" } : Jvm.MethodName)) ∈ lw_all := lw_g (lw_at lw_m7 124 rfl) rfl
theorem q1595 : (Jvm.Cond.code ({ cls := "java/lang/StringUTF16", name := "putChar", desc := "([BII)V" } : Jvm.MethodName) prog_26_method_4_code (3 : Nat) (Option.none : Option Jvm.ClassFile.FieldType)) ∈ lw_all := lw_g (lw_at lw_m7 125 rfl) rfl
theorem q1597 : (Jvm.Cond.static ({ cls := "java/lang/StringUTF16", name := "putCharSB", desc := "([BII)V" } : Jvm.MethodName)) ∈ lw_all := lw_g (lw_at lw_m7 127 rfl) rfl
theorem q1598 : (Jvm.Cond.code ({ cls := "java/lang/StringUTF16", name := "putCharSB", desc := "([BII)V" } : Jvm.MethodName) prog_26_method_71_code (3 : Nat) (Option.none : Option Jvm.ClassFile.FieldType)) ∈ lw_all := lw_g (lw_at lw_m7 128 rfl) rfl
theorem q1599 : (Jvm.Cond.methodLink "java/lang/StringUTF16" (67 : Nat) ({ cls := "java/lang/StringUTF16", name := "checkIndex", desc := "(I[B)V" } : Jvm.MethodName)) ∈ lw_all := lw_g (lw_at lw_m7 129 rfl) rfl
theorem q1600 : (Jvm.Cond.static ({ cls := "java/lang/StringUTF16", name := "checkIndex", desc := "(I[B)V" } : Jvm.MethodName)) ∈ lw_all := lw_g (lw_at lw_m7 130 rfl) rfl
theorem q1601 : (Jvm.Cond.code ({ cls := "java/lang/StringUTF16", name := "checkIndex", desc := "(I[B)V" } : Jvm.MethodName) prog_26_method_91_code (2 : Nat) (Option.none : Option Jvm.ClassFile.FieldType)) ∈ lw_all := lw_g (lw_at lw_m7 131 rfl) rfl
theorem q1602 : (Jvm.Cond.methodLink "java/lang/StringUTF16" (414 : Nat) ({ cls := "java/lang/String", name := "checkIndex", desc := "(II)V" } : Jvm.MethodName)) ∈ lw_all := lw_g (lw_at lw_m7 132 rfl) rfl
theorem q1627 : (Jvm.Cond.static ({ cls := "java/lang/StringUTF16", name := "fillNull", desc := "([BII)V" } : Jvm.MethodName)) ∈ lw_all := lw_g (lw_at lw_m7 157 rfl) rfl
theorem q1628 : (Jvm.Cond.code ({ cls := "java/lang/StringUTF16", name := "fillNull", desc := "([BII)V" } : Jvm.MethodName) prog_26_method_70_code (3 : Nat) (Option.none : Option Jvm.ClassFile.FieldType)) ∈ lw_all := lw_g (lw_at lw_m7 158 rfl) rfl
theorem q1629 : (Jvm.Cond.methodLink "java/lang/StringUTF16" (380 : Nat) ({ cls := "java/util/Arrays", name := "fill", desc := "([BIIB)V" } : Jvm.MethodName)) ∈ lw_all := lw_g (lw_at lw_m7 159 rfl) rfl
theorem q1717 : (Jvm.Cond.static ({ cls := "java/lang/StringUTF16", name := "compress", desc := "([BII)[B" } : Jvm.MethodName)) ∈ lw_all := lw_g (lw_at lw_m8 7 rfl) rfl
theorem q1718 : (Jvm.Cond.code ({ cls := "java/lang/StringUTF16", name := "compress", desc := "([BII)[B" } : Jvm.MethodName) prog_26_method_17_code (6 : Nat) (Option.some (Jvm.ClassFile.FieldType.array Jvm.ClassFile.FieldType.byte))) ∈ lw_all := lw_g (lw_at lw_m8 8 rfl) rfl
theorem q1719 : (Jvm.Cond.methodLink "java/lang/StringUTF16" (123 : Nat) ({ cls := "java/lang/StringUTF16", name := "compress", desc := "([BI[BII)I" } : Jvm.MethodName)) ∈ lw_all := lw_g (lw_at lw_m8 9 rfl) rfl
theorem q1720 : (Jvm.Cond.static ({ cls := "java/lang/StringUTF16", name := "compress", desc := "([BI[BII)I" } : Jvm.MethodName)) ∈ lw_all := lw_g (lw_at lw_m8 10 rfl) rfl
theorem q1721 : (Jvm.Cond.code ({ cls := "java/lang/StringUTF16", name := "compress", desc := "([BI[BII)I" } : Jvm.MethodName) prog_26_method_22_code (7 : Nat) (Option.some Jvm.ClassFile.FieldType.int)) ∈ lw_all := lw_g (lw_at lw_m8 11 rfl) rfl
theorem q1722 : (Jvm.Cond.methodLink "java/lang/StringUTF16" (126 : Nat) ({ cls := "java/util/Arrays", name := "copyOfRange", desc := "([BII)[B" } : Jvm.MethodName)) ∈ lw_all := lw_g (lw_at lw_m8 12 rfl) rfl
theorem q1724 : (Jvm.Cond.static ({ cls := "java/lang/StringUTF16", name := "coderFromArrayLen", desc := "([BI)B" } : Jvm.MethodName)) ∈ lw_all := lw_g (lw_at lw_m8 14 rfl) rfl
theorem q1725 : (Jvm.Cond.code ({ cls := "java/lang/StringUTF16", name := "coderFromArrayLen", desc := "([BI)B" } : Jvm.MethodName) prog_26_method_15_code (2 : Nat) (Option.some Jvm.ClassFile.FieldType.byte)) ∈ lw_all := lw_g (lw_at lw_m8 15 rfl) rfl
theorem q1885 : (Jvm.Cond.static ({ cls := "java/lang/StringUTF16", name := "charAt", desc := "([BI)C" } : Jvm.MethodName)) ∈ lw_all := lw_g (lw_at lw_m8 175 rfl) rfl
theorem q1886 : (Jvm.Cond.code ({ cls := "java/lang/StringUTF16", name := "charAt", desc := "([BI)C" } : Jvm.MethodName) prog_26_method_83_code (2 : Nat) (Option.some Jvm.ClassFile.FieldType.char)) ∈ lw_all := lw_g (lw_at lw_m8 176 rfl) rfl
/-! java/util/ArrayList$Itr -/
set_option maxRecDepth 100000
def RJ10 : String := "java/util/ArrayList$Itr"
def TJ10 : u_T := fun k => match k with
  | 0 => ("java/util/ArrayList$Itr", "cursor", "I", false)
  | 1 => ("java/util/ArrayList$Itr", "lastRet", "I", false)
  | 2 => ("java/util/ArrayList$Itr", "expectedModCount", "I", false)
  | _ => ("java/util/ArrayList$Itr", "this$0", "Ljava/util/ArrayList;", true)
def tyJ10 : Nat → FieldType := fun k => match k with
  | 0 => .int
  | 1 => .int
  | 2 => .int
  | _ => .object "java/util/ArrayList"
abbrev wsJ100 : List Cond := u_ws RJ10 TJ10 4
theorem nmJ10 : ∀ a, a < 4 → ∀ b, b < 4 → a ≠ b → (TJ10 a).2.1 ≠ (TJ10 b).2.1 := by decide +kernel
theorem tyJ10_ok : ∀ k, k < 4 → parseFieldDescriptor (TJ10 k).2.2.1 = some (tyJ10 k) := by decide +kernel
abbrev cJ10_init : ByteArray := prog_36_method_1_code
def yJ10_init : MethodName := ⟨RJ10, "<init>", "(Ljava/util/ArrayList;)V"⟩
def dkwJ10_init_1 : List UInt8 := [181, 0, 22, 177]
abbrev dktJ10_init_1 : List UInt8 := dkwJ10_init_1 ++ []
def dkwJ10_init_0 : List UInt8 := [42, 43, 181, 0, 1, 42, 183, 0, 7, 42, 2, 181, 0, 13, 42, 42, 180, 0, 1, 180, 0, 17]
abbrev dktJ10_init_0 : List UInt8 := dkwJ10_init_0 ++ dktJ10_init_1
theorem dksJ10_init_0 : cJ10_init.data.toList.drop 0 = dktJ10_init_0 := by decide +kernel
theorem dksJ10_init_1 : cJ10_init.data.toList.drop 22 = dktJ10_init_1 := dk_seg dksJ10_init_0 22 rfl rfl
theorem dJ10_init_0 : decode cJ10_init 0 = .ok (.aload_n 0, 1) := dk_42 (dk_at dksJ10_init_0 0 rfl rfl)
theorem dJ10_init_1 : decode cJ10_init 1 = .ok (.aload_n 1, 1) := dk_43 (dk_at dksJ10_init_0 1 rfl rfl)
theorem dJ10_init_2 : decode cJ10_init 2 = .ok (.putfield 1, 3) := dk_181 0 1 (dk_at dksJ10_init_0 2 rfl rfl)
theorem dJ10_init_5 : decode cJ10_init 5 = .ok (.aload_n 0, 1) := dk_42 (dk_at dksJ10_init_0 5 rfl rfl)
theorem dJ10_init_6 : decode cJ10_init 6 = .ok (.invokespecial 7, 3) := dk_183 0 7 (dk_at dksJ10_init_0 6 rfl rfl)
theorem dJ10_init_9 : decode cJ10_init 9 = .ok (.aload_n 0, 1) := dk_42 (dk_at dksJ10_init_0 9 rfl rfl)
theorem dJ10_init_10 : decode cJ10_init 10 = .ok (.iconst (-1), 1) := dk_2 (dk_at dksJ10_init_0 10 rfl rfl)
theorem dJ10_init_11 : decode cJ10_init 11 = .ok (.putfield 13, 3) := dk_181 0 13 (dk_at dksJ10_init_0 11 rfl rfl)
theorem dJ10_init_14 : decode cJ10_init 14 = .ok (.aload_n 0, 1) := dk_42 (dk_at dksJ10_init_0 14 rfl rfl)
theorem dJ10_init_15 : decode cJ10_init 15 = .ok (.aload_n 0, 1) := dk_42 (dk_at dksJ10_init_0 15 rfl rfl)
theorem dJ10_init_16 : decode cJ10_init 16 = .ok (.getfield 1, 3) := dk_180 0 1 (dk_at dksJ10_init_0 16 rfl rfl)
theorem dJ10_init_19 : decode cJ10_init 19 = .ok (.getfield 17, 3) := dk_180 0 17 (dk_at dksJ10_init_0 19 rfl rfl)
theorem dJ10_init_22 : decode cJ10_init 22 = .ok (.putfield 22, 3) := dk_181 0 22 (dk_at dksJ10_init_1 0 rfl rfl)
theorem dJ10_init_25 : decode cJ10_init 25 = .ok (.return_, 1) := dk_177 (dk_at dksJ10_init_1 3 rfl rfl)
abbrev cJ10_hasNext : ByteArray := prog_36_method_2_code
def yJ10_hasNext : MethodName := ⟨RJ10, "hasNext", "()Z"⟩
def dkwJ10_hasNext_0 : List UInt8 := [42, 180, 0, 25, 42, 180, 0, 1, 180, 0, 28, 159, 0, 7, 4, 167, 0, 4, 3, 172]
abbrev dktJ10_hasNext_0 : List UInt8 := dkwJ10_hasNext_0 ++ []
theorem dksJ10_hasNext_0 : cJ10_hasNext.data.toList.drop 0 = dktJ10_hasNext_0 := by decide +kernel
theorem dJ10_hasNext_0 : decode cJ10_hasNext 0 = .ok (.aload_n 0, 1) := dk_42 (dk_at dksJ10_hasNext_0 0 rfl rfl)
theorem dJ10_hasNext_1 : decode cJ10_hasNext 1 = .ok (.getfield 25, 3) := dk_180 0 25 (dk_at dksJ10_hasNext_0 1 rfl rfl)
theorem dJ10_hasNext_4 : decode cJ10_hasNext 4 = .ok (.aload_n 0, 1) := dk_42 (dk_at dksJ10_hasNext_0 4 rfl rfl)
theorem dJ10_hasNext_5 : decode cJ10_hasNext 5 = .ok (.getfield 1, 3) := dk_180 0 1 (dk_at dksJ10_hasNext_0 5 rfl rfl)
theorem dJ10_hasNext_8 : decode cJ10_hasNext 8 = .ok (.getfield 28, 3) := dk_180 0 28 (dk_at dksJ10_hasNext_0 8 rfl rfl)
theorem dJ10_hasNext_11 : decode cJ10_hasNext 11 = .ok (.if_icmp .eq 7, 3) := dk_159 0 7 (dk_at dksJ10_hasNext_0 11 rfl rfl)
theorem dJ10_hasNext_14 : decode cJ10_hasNext 14 = .ok (.iconst 1, 1) := dk_4 (dk_at dksJ10_hasNext_0 14 rfl rfl)
theorem dJ10_hasNext_15 : decode cJ10_hasNext 15 = .ok (.goto 4, 3) := dk_167 0 4 (dk_at dksJ10_hasNext_0 15 rfl rfl)
theorem dJ10_hasNext_18 : decode cJ10_hasNext 18 = .ok (.iconst 0, 1) := dk_3 (dk_at dksJ10_hasNext_0 18 rfl rfl)
theorem dJ10_hasNext_19 : decode cJ10_hasNext 19 = .ok (.ireturn, 1) := dk_172 (dk_at dksJ10_hasNext_0 19 rfl rfl)
abbrev cJ10_next : ByteArray := prog_36_method_3_code
def yJ10_next : MethodName := ⟨RJ10, "next", "()Ljava/lang/Object;"⟩
def dkwJ10_next_2 : List UInt8 := [183, 0, 43, 191, 42, 27, 4, 96, 181, 0, 25, 44, 42, 27, 90, 181, 0, 13, 50, 176]
abbrev dktJ10_next_2 : List UInt8 := dkwJ10_next_2 ++ []
def dkwJ10_next_1 : List UInt8 := [183, 0, 36, 191, 42, 180, 0, 1, 180, 0, 37, 77, 27, 44, 190, 161, 0, 11, 187, 0, 41, 89]
abbrev dktJ10_next_1 : List UInt8 := dkwJ10_next_1 ++ dktJ10_next_2
def dkwJ10_next_0 : List UInt8 := [42, 182, 0, 31, 42, 180, 0, 25, 60, 27, 42, 180, 0, 1, 180, 0, 28, 161, 0, 11, 187, 0, 34, 89]
abbrev dktJ10_next_0 : List UInt8 := dkwJ10_next_0 ++ dktJ10_next_1
theorem dksJ10_next_0 : cJ10_next.data.toList.drop 0 = dktJ10_next_0 := by decide +kernel
theorem dksJ10_next_1 : cJ10_next.data.toList.drop 24 = dktJ10_next_1 := dk_seg dksJ10_next_0 24 rfl rfl
theorem dksJ10_next_2 : cJ10_next.data.toList.drop 46 = dktJ10_next_2 := dk_seg dksJ10_next_1 22 rfl rfl
theorem dJ10_next_0 : decode cJ10_next 0 = .ok (.aload_n 0, 1) := dk_42 (dk_at dksJ10_next_0 0 rfl rfl)
theorem dJ10_next_1 : decode cJ10_next 1 = .ok (.invokevirtual 31, 3) := dk_182 0 31 (dk_at dksJ10_next_0 1 rfl rfl)
theorem dJ10_next_4 : decode cJ10_next 4 = .ok (.aload_n 0, 1) := dk_42 (dk_at dksJ10_next_0 4 rfl rfl)
theorem dJ10_next_5 : decode cJ10_next 5 = .ok (.getfield 25, 3) := dk_180 0 25 (dk_at dksJ10_next_0 5 rfl rfl)
theorem dJ10_next_8 : decode cJ10_next 8 = .ok (.istore_n 1, 1) := dk_60 (dk_at dksJ10_next_0 8 rfl rfl)
theorem dJ10_next_9 : decode cJ10_next 9 = .ok (.iload_n 1, 1) := dk_27 (dk_at dksJ10_next_0 9 rfl rfl)
theorem dJ10_next_10 : decode cJ10_next 10 = .ok (.aload_n 0, 1) := dk_42 (dk_at dksJ10_next_0 10 rfl rfl)
theorem dJ10_next_11 : decode cJ10_next 11 = .ok (.getfield 1, 3) := dk_180 0 1 (dk_at dksJ10_next_0 11 rfl rfl)
theorem dJ10_next_14 : decode cJ10_next 14 = .ok (.getfield 28, 3) := dk_180 0 28 (dk_at dksJ10_next_0 14 rfl rfl)
theorem dJ10_next_17 : decode cJ10_next 17 = .ok (.if_icmp .lt 11, 3) := dk_161 0 11 (dk_at dksJ10_next_0 17 rfl rfl)
theorem dJ10_next_20 : decode cJ10_next 20 = .ok (.new 34, 3) := dk_187 0 34 (dk_at dksJ10_next_0 20 rfl rfl)
theorem dJ10_next_23 : decode cJ10_next 23 = .ok (.dup, 1) := dk_89 (dk_at dksJ10_next_0 23 rfl rfl)
theorem dJ10_next_24 : decode cJ10_next 24 = .ok (.invokespecial 36, 3) := dk_183 0 36 (dk_at dksJ10_next_1 0 rfl rfl)
theorem dJ10_next_27 : decode cJ10_next 27 = .ok (.athrow, 1) := dk_191 (dk_at dksJ10_next_1 3 rfl rfl)
theorem dJ10_next_28 : decode cJ10_next 28 = .ok (.aload_n 0, 1) := dk_42 (dk_at dksJ10_next_1 4 rfl rfl)
theorem dJ10_next_29 : decode cJ10_next 29 = .ok (.getfield 1, 3) := dk_180 0 1 (dk_at dksJ10_next_1 5 rfl rfl)
theorem dJ10_next_32 : decode cJ10_next 32 = .ok (.getfield 37, 3) := dk_180 0 37 (dk_at dksJ10_next_1 8 rfl rfl)
theorem dJ10_next_35 : decode cJ10_next 35 = .ok (.astore_n 2, 1) := dk_77 (dk_at dksJ10_next_1 11 rfl rfl)
theorem dJ10_next_36 : decode cJ10_next 36 = .ok (.iload_n 1, 1) := dk_27 (dk_at dksJ10_next_1 12 rfl rfl)
theorem dJ10_next_37 : decode cJ10_next 37 = .ok (.aload_n 2, 1) := dk_44 (dk_at dksJ10_next_1 13 rfl rfl)
theorem dJ10_next_38 : decode cJ10_next 38 = .ok (.arraylength, 1) := dk_190 (dk_at dksJ10_next_1 14 rfl rfl)
theorem dJ10_next_39 : decode cJ10_next 39 = .ok (.if_icmp .lt 11, 3) := dk_161 0 11 (dk_at dksJ10_next_1 15 rfl rfl)
theorem dJ10_next_42 : decode cJ10_next 42 = .ok (.new 41, 3) := dk_187 0 41 (dk_at dksJ10_next_1 18 rfl rfl)
theorem dJ10_next_45 : decode cJ10_next 45 = .ok (.dup, 1) := dk_89 (dk_at dksJ10_next_1 21 rfl rfl)
theorem dJ10_next_46 : decode cJ10_next 46 = .ok (.invokespecial 43, 3) := dk_183 0 43 (dk_at dksJ10_next_2 0 rfl rfl)
theorem dJ10_next_49 : decode cJ10_next 49 = .ok (.athrow, 1) := dk_191 (dk_at dksJ10_next_2 3 rfl rfl)
theorem dJ10_next_50 : decode cJ10_next 50 = .ok (.aload_n 0, 1) := dk_42 (dk_at dksJ10_next_2 4 rfl rfl)
theorem dJ10_next_51 : decode cJ10_next 51 = .ok (.iload_n 1, 1) := dk_27 (dk_at dksJ10_next_2 5 rfl rfl)
theorem dJ10_next_52 : decode cJ10_next 52 = .ok (.iconst 1, 1) := dk_4 (dk_at dksJ10_next_2 6 rfl rfl)
theorem dJ10_next_53 : decode cJ10_next 53 = .ok (.iadd, 1) := dk_96 (dk_at dksJ10_next_2 7 rfl rfl)
theorem dJ10_next_54 : decode cJ10_next 54 = .ok (.putfield 25, 3) := dk_181 0 25 (dk_at dksJ10_next_2 8 rfl rfl)
theorem dJ10_next_57 : decode cJ10_next 57 = .ok (.aload_n 2, 1) := dk_44 (dk_at dksJ10_next_2 11 rfl rfl)
theorem dJ10_next_58 : decode cJ10_next 58 = .ok (.aload_n 0, 1) := dk_42 (dk_at dksJ10_next_2 12 rfl rfl)
theorem dJ10_next_59 : decode cJ10_next 59 = .ok (.iload_n 1, 1) := dk_27 (dk_at dksJ10_next_2 13 rfl rfl)
theorem dJ10_next_60 : decode cJ10_next 60 = .ok (.dup_x1, 1) := dk_90 (dk_at dksJ10_next_2 14 rfl rfl)
theorem dJ10_next_61 : decode cJ10_next 61 = .ok (.putfield 13, 3) := dk_181 0 13 (dk_at dksJ10_next_2 15 rfl rfl)
theorem dJ10_next_64 : decode cJ10_next 64 = .ok (.aaload, 1) := dk_50 (dk_at dksJ10_next_2 18 rfl rfl)
theorem dJ10_next_65 : decode cJ10_next 65 = .ok (.areturn, 1) := dk_176 (dk_at dksJ10_next_2 19 rfl rfl)
abbrev cJ10_checkForComodification : ByteArray := prog_36_method_6_code
def yJ10_checkForComodification : MethodName := ⟨RJ10, "checkForComodification", "()V"⟩
def dkwJ10_checkForComodification_0 : List UInt8 := [42, 180, 0, 1, 180, 0, 17, 42, 180, 0, 22, 159, 0, 11, 187, 0, 41, 89, 183, 0, 43, 191, 177]
abbrev dktJ10_checkForComodification_0 : List UInt8 := dkwJ10_checkForComodification_0 ++ []
theorem dksJ10_checkForComodification_0 : cJ10_checkForComodification.data.toList.drop 0 = dktJ10_checkForComodification_0 := by decide +kernel
theorem dJ10_checkForComodification_0 : decode cJ10_checkForComodification 0 = .ok (.aload_n 0, 1) := dk_42 (dk_at dksJ10_checkForComodification_0 0 rfl rfl)
theorem dJ10_checkForComodification_1 : decode cJ10_checkForComodification 1 = .ok (.getfield 1, 3) := dk_180 0 1 (dk_at dksJ10_checkForComodification_0 1 rfl rfl)
theorem dJ10_checkForComodification_4 : decode cJ10_checkForComodification 4 = .ok (.getfield 17, 3) := dk_180 0 17 (dk_at dksJ10_checkForComodification_0 4 rfl rfl)
theorem dJ10_checkForComodification_7 : decode cJ10_checkForComodification 7 = .ok (.aload_n 0, 1) := dk_42 (dk_at dksJ10_checkForComodification_0 7 rfl rfl)
theorem dJ10_checkForComodification_8 : decode cJ10_checkForComodification 8 = .ok (.getfield 22, 3) := dk_180 0 22 (dk_at dksJ10_checkForComodification_0 8 rfl rfl)
theorem dJ10_checkForComodification_11 : decode cJ10_checkForComodification 11 = .ok (.if_icmp .eq 11, 3) := dk_159 0 11 (dk_at dksJ10_checkForComodification_0 11 rfl rfl)
theorem dJ10_checkForComodification_14 : decode cJ10_checkForComodification 14 = .ok (.new 41, 3) := dk_187 0 41 (dk_at dksJ10_checkForComodification_0 14 rfl rfl)
theorem dJ10_checkForComodification_17 : decode cJ10_checkForComodification 17 = .ok (.dup, 1) := dk_89 (dk_at dksJ10_checkForComodification_0 17 rfl rfl)
theorem dJ10_checkForComodification_18 : decode cJ10_checkForComodification 18 = .ok (.invokespecial 43, 3) := dk_183 0 43 (dk_at dksJ10_checkForComodification_0 18 rfl rfl)
theorem dJ10_checkForComodification_21 : decode cJ10_checkForComodification 21 = .ok (.athrow, 1) := dk_191 (dk_at dksJ10_checkForComodification_0 21 rfl rfl)
theorem dJ10_checkForComodification_22 : decode cJ10_checkForComodification 22 = .ok (.return_, 1) := dk_177 (dk_at dksJ10_checkForComodification_0 22 rfl rfl)
theorem q46 : (Jvm.Cond.initialized "java/util/ArrayList$Itr") ∈ lw_all := lw_g (lw_at lw_m1 16 rfl) rfl
theorem q108 : (Jvm.Cond.fieldLink "java/util/ArrayList$Itr" (37 : Nat) "java/util/ArrayList" "elementData" "[Ljava/lang/Object;") ∈ lw_all := lw_g (lw_at lw_m1 78 rfl) rfl
theorem q109 : (Jvm.Cond.fieldLinkNest "java/util/ArrayList$Itr" (28 : Nat) "java/util/ArrayList" "size" "I" "java/util/ArrayList") ∈ lw_tbl := lw_at lw_m1 79 rfl
theorem q112 : (Jvm.Cond.fieldLink "java/util/ArrayList$Itr" (17 : Nat) "java/util/ArrayList" "modCount" "I") ∈ lw_all := lw_g (lw_at lw_m1 82 rfl) rfl
theorem q352 : (Jvm.Cond.instantiable "java/util/ArrayList$Itr" (4 : Nat)) ∈ lw_all := lw_g (lw_at lw_m2 82 rfl) rfl
theorem q354 : (Jvm.Cond.instanceMethod ({ cls := "java/util/ArrayList$Itr", name := "<init>", desc := "(Ljava/util/ArrayList;)V" } : Jvm.MethodName)) ∈ lw_all := lw_g (lw_at lw_m2 84 rfl) rfl
theorem q355 : (Jvm.Cond.code ({ cls := "java/util/ArrayList$Itr", name := "<init>", desc := "(Ljava/util/ArrayList;)V" } : Jvm.MethodName) prog_36_method_1_code (2 : Nat) (Option.none : Option Jvm.ClassFile.FieldType)) ∈ lw_all := lw_g (lw_at lw_m2 85 rfl) rfl
theorem q356 : (Jvm.Cond.methodLink "java/util/ArrayList$Itr" (7 : Nat) ({ cls := "java/lang/Object", name := "<init>", desc := "()V" } : Jvm.MethodName)) ∈ lw_all := lw_g (lw_at lw_m2 86 rfl) rfl
theorem q357 : (Jvm.Cond.fieldLink "java/util/ArrayList$Itr" (25 : Nat) "java/util/ArrayList$Itr" "cursor" "I") ∈ lw_all := lw_g (lw_at lw_m2 87 rfl) rfl
theorem q358 : (Jvm.Cond.fieldLink "java/util/ArrayList$Itr" (13 : Nat) "java/util/ArrayList$Itr" "lastRet" "I") ∈ lw_all := lw_g (lw_at lw_m2 88 rfl) rfl
theorem q359 : (Jvm.Cond.fieldLink "java/util/ArrayList$Itr" (22 : Nat) "java/util/ArrayList$Itr" "expectedModCount" "I") ∈ lw_all := lw_g (lw_at lw_m2 89 rfl) rfl
theorem q360 : (Jvm.Cond.fieldLink "java/util/ArrayList$Itr" (1 : Nat) "java/util/ArrayList$Itr" "this$0" "Ljava/util/ArrayList;") ∈ lw_all := lw_g (lw_at lw_m2 90 rfl) rfl
theorem q361 : (Jvm.Cond.lays "java/util/ArrayList$Itr" "java/util/ArrayList$Itr" "cursor" "I") ∈ lw_all := lw_g (lw_at lw_m2 91 rfl) rfl
theorem q362 : (Jvm.Cond.soleField "java/util/ArrayList$Itr" "cursor") ∈ lw_all := lw_g (lw_at lw_m2 92 rfl) rfl
theorem q363 : (Jvm.Cond.lays "java/util/ArrayList$Itr" "java/util/ArrayList$Itr" "lastRet" "I") ∈ lw_all := lw_g (lw_at lw_m2 93 rfl) rfl
theorem q364 : (Jvm.Cond.soleField "java/util/ArrayList$Itr" "lastRet") ∈ lw_all := lw_g (lw_at lw_m2 94 rfl) rfl
theorem q365 : (Jvm.Cond.lays "java/util/ArrayList$Itr" "java/util/ArrayList$Itr" "expectedModCount" "I") ∈ lw_all := lw_g (lw_at lw_m2 95 rfl) rfl
theorem q366 : (Jvm.Cond.soleField "java/util/ArrayList$Itr" "expectedModCount") ∈ lw_all := lw_g (lw_at lw_m2 96 rfl) rfl
theorem q367 : (Jvm.Cond.laysFinal "java/util/ArrayList$Itr" "java/util/ArrayList$Itr" "this$0" "Ljava/util/ArrayList;") ∈ lw_all := lw_g (lw_at lw_m2 97 rfl) rfl
theorem q368 : (Jvm.Cond.soleField "java/util/ArrayList$Itr" "this$0") ∈ lw_all := lw_g (lw_at lw_m2 98 rfl) rfl
theorem q369 : (Jvm.Cond.superclass "java/util/ArrayList$Itr" "java/lang/Object") ∈ lw_all := lw_g (lw_at lw_m2 99 rfl) rfl
theorem q374 : (Jvm.Cond.castable "java/util/ArrayList$Itr" "java/util/Iterator") ∈ lw_tbl := lw_at lw_m2 104 rfl
theorem q375 : (Jvm.Cond.selects "java/util/ArrayList$Itr" ({ cls := "java/util/Iterator", name := "hasNext", desc := "()Z" } : Jvm.MethodName) ({ cls := "java/util/ArrayList$Itr", name := "hasNext", desc := "()Z" } : Jvm.MethodName)) ∈ lw_all := lw_g (lw_at lw_m2 105 rfl) rfl
theorem q376 : (Jvm.Cond.unhidden "java/util/ArrayList$Itr" "hasNext" "()Z") ∈ lw_tbl := lw_at lw_m2 106 rfl
theorem q377 : (Jvm.Cond.instanceMethod ({ cls := "java/util/ArrayList$Itr", name := "hasNext", desc := "()Z" } : Jvm.MethodName)) ∈ lw_all := lw_g (lw_at lw_m2 107 rfl) rfl
theorem q378 : (Jvm.Cond.publicMethod ({ cls := "java/util/ArrayList$Itr", name := "hasNext", desc := "()Z" } : Jvm.MethodName)) ∈ lw_tbl := lw_at lw_m2 108 rfl
theorem q379 : (Jvm.Cond.code ({ cls := "java/util/ArrayList$Itr", name := "hasNext", desc := "()Z" } : Jvm.MethodName) prog_36_method_2_code (1 : Nat) (Option.some Jvm.ClassFile.FieldType.boolean)) ∈ lw_all := lw_g (lw_at lw_m2 109 rfl) rfl
theorem q402 : (Jvm.Cond.selects "java/util/ArrayList$Itr" ({ cls := "java/util/Iterator", name := "next", desc := "()Ljava/lang/Object;" } : Jvm.MethodName) ({ cls := "java/util/ArrayList$Itr", name := "next", desc := "()Ljava/lang/Object;" } : Jvm.MethodName)) ∈ lw_all := lw_g (lw_at lw_m2 132 rfl) rfl
theorem q403 : (Jvm.Cond.unhidden "java/util/ArrayList$Itr" "next" "()Ljava/lang/Object;") ∈ lw_tbl := lw_at lw_m2 133 rfl
theorem q404 : (Jvm.Cond.instanceMethod ({ cls := "java/util/ArrayList$Itr", name := "next", desc := "()Ljava/lang/Object;" } : Jvm.MethodName)) ∈ lw_all := lw_g (lw_at lw_m2 134 rfl) rfl
theorem q405 : (Jvm.Cond.publicMethod ({ cls := "java/util/ArrayList$Itr", name := "next", desc := "()Ljava/lang/Object;" } : Jvm.MethodName)) ∈ lw_tbl := lw_at lw_m2 135 rfl
theorem q406 : (Jvm.Cond.code ({ cls := "java/util/ArrayList$Itr", name := "next", desc := "()Ljava/lang/Object;" } : Jvm.MethodName) prog_36_method_3_code (3 : Nat) (Option.some (Jvm.ClassFile.FieldType.object "java/lang/Object"))) ∈ lw_all := lw_g (lw_at lw_m2 136 rfl) rfl
theorem q407 : (Jvm.Cond.methodLink "java/util/ArrayList$Itr" (31 : Nat) ({ cls := "java/util/ArrayList$Itr", name := "checkForComodification", desc := "()V" } : Jvm.MethodName)) ∈ lw_all := lw_g (lw_at lw_m2 137 rfl) rfl
theorem q408 : (Jvm.Cond.instanceMethod ({ cls := "java/util/ArrayList$Itr", name := "checkForComodification", desc := "()V" } : Jvm.MethodName)) ∈ lw_all := lw_g (lw_at lw_m2 138 rfl) rfl
theorem q409 : (Jvm.Cond.selects "java/util/ArrayList$Itr" ({ cls := "java/util/ArrayList$Itr", name := "checkForComodification", desc := "()V" } : Jvm.MethodName) ({ cls := "java/util/ArrayList$Itr", name := "checkForComodification", desc := "()V" } : Jvm.MethodName)) ∈ lw_all := lw_g (lw_at lw_m2 139 rfl) rfl
theorem q410 : (Jvm.Cond.code ({ cls := "java/util/ArrayList$Itr", name := "checkForComodification", desc := "()V" } : Jvm.MethodName) prog_36_method_6_code (1 : Nat) (Option.none : Option Jvm.ClassFile.FieldType)) ∈ lw_all := lw_g (lw_at lw_m2 140 rfl) rfl
theorem q547 : (Jvm.Cond.selects "java/util/ArrayList$Itr" ({ cls := "java/lang/Object", name := "getClass", desc := "()Ljava/lang/Class;" } : Jvm.MethodName) ({ cls := "java/lang/Object", name := "getClass", desc := "()Ljava/lang/Class;" } : Jvm.MethodName)) ∈ lw_all := lw_g (lw_at lw_m3 37 rfl) rfl
theorem q2419 : (Jvm.Cond.castable "java/util/ArrayList$Itr" "java/lang/Object") ∈ lw_tbl := lw_at lw_m10 229 rfl
theorem in_J10 : ∀ w ∈ wsJ100, w ∈ lw_all := lw_in wsJ100 [361, 363, 365, 367] (by decide +kernel) (by decide +kernel)
/-! jdk/internal/util/ArraysSupport -/
set_option maxRecDepth 100000
def RJ11 : String := "jdk/internal/util/ArraysSupport"
abbrev cJ11_newLength : ByteArray := prog_68_method_27_code
def yJ11_newLength : MethodName := ⟨RJ11, "newLength", "(III)I"⟩
def dkwJ11_newLength_1 : List UInt8 := [184, 0, 201, 172]
abbrev dktJ11_newLength_1 : List UInt8 := dkwJ11_newLength_1 ++ []
def dkwJ11_newLength_0 : List UInt8 := [26, 27, 28, 184, 0, 194, 96, 62, 3, 29, 162, 0, 11, 29, 18, 200, 163, 0, 5, 29, 172, 26, 27]
abbrev dktJ11_newLength_0 : List UInt8 := dkwJ11_newLength_0 ++ dktJ11_newLength_1
theorem dksJ11_newLength_0 : cJ11_newLength.data.toList.drop 0 = dktJ11_newLength_0 := by decide +kernel
theorem dksJ11_newLength_1 : cJ11_newLength.data.toList.drop 23 = dktJ11_newLength_1 := dk_seg dksJ11_newLength_0 23 rfl rfl
theorem dJ11_newLength_0 : decode cJ11_newLength 0 = .ok (.iload_n 0, 1) := dk_26 (dk_at dksJ11_newLength_0 0 rfl rfl)
theorem dJ11_newLength_1 : decode cJ11_newLength 1 = .ok (.iload_n 1, 1) := dk_27 (dk_at dksJ11_newLength_0 1 rfl rfl)
theorem dJ11_newLength_2 : decode cJ11_newLength 2 = .ok (.iload_n 2, 1) := dk_28 (dk_at dksJ11_newLength_0 2 rfl rfl)
theorem dJ11_newLength_3 : decode cJ11_newLength 3 = .ok (.invokestatic 194, 3) := dk_184 0 194 (dk_at dksJ11_newLength_0 3 rfl rfl)
theorem dJ11_newLength_6 : decode cJ11_newLength 6 = .ok (.iadd, 1) := dk_96 (dk_at dksJ11_newLength_0 6 rfl rfl)
theorem dJ11_newLength_7 : decode cJ11_newLength 7 = .ok (.istore_n 3, 1) := dk_62 (dk_at dksJ11_newLength_0 7 rfl rfl)
theorem dJ11_newLength_8 : decode cJ11_newLength 8 = .ok (.iconst 0, 1) := dk_3 (dk_at dksJ11_newLength_0 8 rfl rfl)
theorem dJ11_newLength_9 : decode cJ11_newLength 9 = .ok (.iload_n 3, 1) := dk_29 (dk_at dksJ11_newLength_0 9 rfl rfl)
theorem dJ11_newLength_10 : decode cJ11_newLength 10 = .ok (.if_icmp .ge 11, 3) := dk_162 0 11 (dk_at dksJ11_newLength_0 10 rfl rfl)
theorem dJ11_newLength_13 : decode cJ11_newLength 13 = .ok (.iload_n 3, 1) := dk_29 (dk_at dksJ11_newLength_0 13 rfl rfl)
theorem dJ11_newLength_14 : decode cJ11_newLength 14 = .ok (.ldc 200, 2) := dk_18 200 (dk_at dksJ11_newLength_0 14 rfl rfl)
theorem dJ11_newLength_16 : decode cJ11_newLength 16 = .ok (.if_icmp .gt 5, 3) := dk_163 0 5 (dk_at dksJ11_newLength_0 16 rfl rfl)
theorem dJ11_newLength_19 : decode cJ11_newLength 19 = .ok (.iload_n 3, 1) := dk_29 (dk_at dksJ11_newLength_0 19 rfl rfl)
theorem dJ11_newLength_20 : decode cJ11_newLength 20 = .ok (.ireturn, 1) := dk_172 (dk_at dksJ11_newLength_0 20 rfl rfl)
theorem dJ11_newLength_21 : decode cJ11_newLength 21 = .ok (.iload_n 0, 1) := dk_26 (dk_at dksJ11_newLength_0 21 rfl rfl)
theorem dJ11_newLength_22 : decode cJ11_newLength 22 = .ok (.iload_n 1, 1) := dk_27 (dk_at dksJ11_newLength_0 22 rfl rfl)
theorem dJ11_newLength_23 : decode cJ11_newLength 23 = .ok (.invokestatic 201, 3) := dk_184 0 201 (dk_at dksJ11_newLength_1 0 rfl rfl)
theorem dJ11_newLength_26 : decode cJ11_newLength 26 = .ok (.ireturn, 1) := dk_172 (dk_at dksJ11_newLength_1 3 rfl rfl)
abbrev cJ11_hugeLength : ByteArray := prog_68_method_28_code
def yJ11_hugeLength : MethodName := ⟨RJ11, "hugeLength", "(II)I"⟩
abbrev cJ11_vectorizedHashCode : ByteArray := prog_68_method_4_code
def yJ11_vectorizedHashCode : MethodName := ⟨RJ11, "vectorizedHashCode", "(Ljava/lang/Object;IIII)I"⟩
abbrev cJ11_signedHashCode : ByteArray := prog_68_method_5_code
def yJ11_signedHashCode : MethodName := ⟨RJ11, "signedHashCode", "(I[BII)I"⟩
abbrev cJ11_utf16hashCode : ByteArray := prog_68_method_10_code
def yJ11_utf16hashCode : MethodName := ⟨RJ11, "utf16hashCode", "(I[BII)I"⟩
abbrev cJ11_hashCode : ByteArray := prog_68_method_7_code
def yJ11_hashCode : MethodName := ⟨RJ11, "hashCode", "(I[CII)I"⟩
abbrev cJ11_hashCode_2 : ByteArray := prog_68_method_6_code
def yJ11_hashCode_2 : MethodName := ⟨RJ11, "hashCode", "(I[BII)I"⟩
abbrev cJ11_hashCode_3 : ByteArray := prog_68_method_8_code
def yJ11_hashCode_3 : MethodName := ⟨RJ11, "hashCode", "(I[SII)I"⟩
abbrev cJ11_hashCode_4 : ByteArray := prog_68_method_9_code
def yJ11_hashCode_4 : MethodName := ⟨RJ11, "hashCode", "(I[III)I"⟩
abbrev cJ11_mismatch : ByteArray := prog_68_method_13_code
def yJ11_mismatch : MethodName := ⟨RJ11, "mismatch", "([B[BI)I"⟩
abbrev cJ11_vectorizedMismatch : ByteArray := prog_68_method_3_code
def yJ11_vectorizedMismatch : MethodName := ⟨RJ11, "vectorizedMismatch", "(Ljava/lang/Object;JLjava/lang/Object;JII)I"⟩
theorem q48 : (Jvm.Cond.initialized "jdk/internal/util/ArraysSupport") ∈ lw_all := lw_g (lw_at lw_m1 18 rfl) rfl
theorem q518 : (Jvm.Cond.static ({ cls := "jdk/internal/util/ArraysSupport", name := "newLength", desc := "(III)I" } : Jvm.MethodName)) ∈ lw_all := lw_g (lw_at lw_m3 8 rfl) rfl
theorem q519 : (Jvm.Cond.code ({ cls := "jdk/internal/util/ArraysSupport", name := "newLength", desc := "(III)I" } : Jvm.MethodName) prog_68_method_27_code (4 : Nat) (Option.some Jvm.ClassFile.FieldType.int)) ∈ lw_all := lw_g (lw_at lw_m3 9 rfl) rfl
theorem q520 : (Jvm.Cond.methodLink "jdk/internal/util/ArraysSupport" (194 : Nat) ({ cls := "java/lang/Math", name := "max", desc := "(II)I" } : Jvm.MethodName)) ∈ lw_all := lw_g (lw_at lw_m3 10 rfl) rfl
theorem q523 : (Jvm.Cond.constant "jdk/internal/util/ArraysSupport" (200 : Nat) (2147483639 : Int32)) ∈ lw_all := lw_g (lw_at lw_m3 13 rfl) rfl
theorem q524 : (Jvm.Cond.methodLink "jdk/internal/util/ArraysSupport" (201 : Nat) ({ cls := "jdk/internal/util/ArraysSupport", name := "hugeLength", desc := "(II)I" } : Jvm.MethodName)) ∈ lw_all := lw_g (lw_at lw_m3 14 rfl) rfl
theorem q525 : (Jvm.Cond.static ({ cls := "jdk/internal/util/ArraysSupport", name := "hugeLength", desc := "(II)I" } : Jvm.MethodName)) ∈ lw_all := lw_g (lw_at lw_m3 15 rfl) rfl
theorem q526 : (Jvm.Cond.code ({ cls := "jdk/internal/util/ArraysSupport", name := "hugeLength", desc := "(II)I" } : Jvm.MethodName) prog_68_method_28_code (3 : Nat) (Option.some Jvm.ClassFile.FieldType.int)) ∈ lw_all := lw_g (lw_at lw_m3 16 rfl) rfl
theorem q846 : (Jvm.Cond.static ({ cls := "jdk/internal/util/ArraysSupport", name := "vectorizedHashCode", desc := "(Ljava/lang/Object;IIII)I" } : Jvm.MethodName)) ∈ lw_all := lw_g (lw_at lw_m4 96 rfl) rfl
theorem q847 : (Jvm.Cond.code ({ cls := "jdk/internal/util/ArraysSupport", name := "vectorizedHashCode", desc := "(Ljava/lang/Object;IIII)I" } : Jvm.MethodName) prog_68_method_4_code (5 : Nat) (Option.some Jvm.ClassFile.FieldType.int)) ∈ lw_all := lw_g (lw_at lw_m4 97 rfl) rfl
theorem q848 : (Jvm.Cond.classLink "jdk/internal/util/ArraysSupport" (60 : Nat) "[B") ∈ lw_all := lw_g (lw_at lw_m4 98 rfl) rfl
theorem q849 : (Jvm.Cond.methodLink "jdk/internal/util/ArraysSupport" (62 : Nat) ({ cls := "jdk/internal/util/ArraysSupport", name := "signedHashCode", desc := "(I[BII)I" } : Jvm.MethodName)) ∈ lw_all := lw_g (lw_at lw_m4 99 rfl) rfl
theorem q850 : (Jvm.Cond.static ({ cls := "jdk/internal/util/ArraysSupport", name := "signedHashCode", desc := "(I[BII)I" } : Jvm.MethodName)) ∈ lw_all := lw_g (lw_at lw_m4 100 rfl) rfl
theorem q851 : (Jvm.Cond.code ({ cls := "jdk/internal/util/ArraysSupport", name := "signedHashCode", desc := "(I[BII)I" } : Jvm.MethodName) prog_68_method_5_code (6 : Nat) (Option.some Jvm.ClassFile.FieldType.int)) ∈ lw_all := lw_g (lw_at lw_m4 101 rfl) rfl
theorem q852 : (Jvm.Cond.methodLink "jdk/internal/util/ArraysSupport" (66 : Nat) ({ cls := "jdk/internal/util/ArraysSupport", name := "utf16hashCode", desc := "(I[BII)I" } : Jvm.MethodName)) ∈ lw_all := lw_g (lw_at lw_m4 102 rfl) rfl
theorem q853 : (Jvm.Cond.static ({ cls := "jdk/internal/util/ArraysSupport", name := "utf16hashCode", desc := "(I[BII)I" } : Jvm.MethodName)) ∈ lw_all := lw_g (lw_at lw_m4 103 rfl) rfl
theorem q854 : (Jvm.Cond.code ({ cls := "jdk/internal/util/ArraysSupport", name := "utf16hashCode", desc := "(I[BII)I" } : Jvm.MethodName) prog_68_method_10_code (6 : Nat) (Option.some Jvm.ClassFile.FieldType.int)) ∈ lw_all := lw_g (lw_at lw_m4 104 rfl) rfl
theorem q855 : (Jvm.Cond.fieldLink "jdk/internal/util/ArraysSupport" (106 : Nat) "jdk/internal/util/ArraysSupport" "JLA" "Ljdk/internal/access/JavaLangAccess;") ∈ lw_all := lw_g (lw_at lw_m4 105 rfl) rfl
theorem q856 : (Jvm.Cond.laysStatic "jdk/internal/util/ArraysSupport" "JLA" "Ljdk/internal/access/JavaLangAccess;") ∈ lw_tbl := lw_at lw_m4 106 rfl
theorem q857 : (Jvm.Cond.interfaceEntry "jdk/internal/util/ArraysSupport" (110 : Nat)) ∈ lw_tbl := lw_at lw_m4 107 rfl
theorem q858 : (Jvm.Cond.methodLink "jdk/internal/util/ArraysSupport" (110 : Nat) ({ cls := "jdk/internal/access/JavaLangAccess", name := "getUTF16Char", desc := "([BI)C" } : Jvm.MethodName)) ∈ lw_all := lw_g (lw_at lw_m4 108 rfl) rfl
theorem q879 : (Jvm.Cond.classLink "jdk/internal/util/ArraysSupport" (69 : Nat) "[C") ∈ lw_all := lw_g (lw_at lw_m4 129 rfl) rfl
theorem q880 : (Jvm.Cond.methodLink "jdk/internal/util/ArraysSupport" (71 : Nat) ({ cls := "jdk/internal/util/ArraysSupport", name := "hashCode", desc := "(I[CII)I" } : Jvm.MethodName)) ∈ lw_all := lw_g (lw_at lw_m4 130 rfl) rfl
theorem q881 : (Jvm.Cond.static ({ cls := "jdk/internal/util/ArraysSupport", name := "hashCode", desc := "(I[CII)I" } : Jvm.MethodName)) ∈ lw_all := lw_g (lw_at lw_m4 131 rfl) rfl
theorem q882 : (Jvm.Cond.code ({ cls := "jdk/internal/util/ArraysSupport", name := "hashCode", desc := "(I[CII)I" } : Jvm.MethodName) prog_68_method_7_code (6 : Nat) (Option.some Jvm.ClassFile.FieldType.int)) ∈ lw_all := lw_g (lw_at lw_m4 132 rfl) rfl
theorem q883 : (Jvm.Cond.methodLink "jdk/internal/util/ArraysSupport" (75 : Nat) ({ cls := "jdk/internal/util/ArraysSupport", name := "hashCode", desc := "(I[BII)I" } : Jvm.MethodName)) ∈ lw_all := lw_g (lw_at lw_m4 133 rfl) rfl
theorem q884 : (Jvm.Cond.static ({ cls := "jdk/internal/util/ArraysSupport", name := "hashCode", desc := "(I[BII)I" } : Jvm.MethodName)) ∈ lw_all := lw_g (lw_at lw_m4 134 rfl) rfl
theorem q885 : (Jvm.Cond.code ({ cls := "jdk/internal/util/ArraysSupport", name := "hashCode", desc := "(I[BII)I" } : Jvm.MethodName) prog_68_method_6_code (6 : Nat) (Option.some Jvm.ClassFile.FieldType.int)) ∈ lw_all := lw_g (lw_at lw_m4 135 rfl) rfl
theorem q886 : (Jvm.Cond.classLink "jdk/internal/util/ArraysSupport" (77 : Nat) "[S") ∈ lw_all := lw_g (lw_at lw_m4 136 rfl) rfl
theorem q887 : (Jvm.Cond.methodLink "jdk/internal/util/ArraysSupport" (79 : Nat) ({ cls := "jdk/internal/util/ArraysSupport", name := "hashCode", desc := "(I[SII)I" } : Jvm.MethodName)) ∈ lw_all := lw_g (lw_at lw_m4 137 rfl) rfl
theorem q888 : (Jvm.Cond.static ({ cls := "jdk/internal/util/ArraysSupport", name := "hashCode", desc := "(I[SII)I" } : Jvm.MethodName)) ∈ lw_all := lw_g (lw_at lw_m4 138 rfl) rfl
theorem q889 : (Jvm.Cond.code ({ cls := "jdk/internal/util/ArraysSupport", name := "hashCode", desc := "(I[SII)I" } : Jvm.MethodName) prog_68_method_8_code (6 : Nat) (Option.some Jvm.ClassFile.FieldType.int)) ∈ lw_all := lw_g (lw_at lw_m4 139 rfl) rfl
theorem q890 : (Jvm.Cond.classLink "jdk/internal/util/ArraysSupport" (82 : Nat) "[I") ∈ lw_all := lw_g (lw_at lw_m4 140 rfl) rfl
theorem q891 : (Jvm.Cond.methodLink "jdk/internal/util/ArraysSupport" (84 : Nat) ({ cls := "jdk/internal/util/ArraysSupport", name := "hashCode", desc := "(I[III)I" } : Jvm.MethodName)) ∈ lw_all := lw_g (lw_at lw_m4 141 rfl) rfl
theorem q892 : (Jvm.Cond.static ({ cls := "jdk/internal/util/ArraysSupport", name := "hashCode", desc := "(I[III)I" } : Jvm.MethodName)) ∈ lw_all := lw_g (lw_at lw_m4 142 rfl) rfl
theorem q893 : (Jvm.Cond.code ({ cls := "jdk/internal/util/ArraysSupport", name := "hashCode", desc := "(I[III)I" } : Jvm.MethodName) prog_68_method_9_code (6 : Nat) (Option.some Jvm.ClassFile.FieldType.int)) ∈ lw_all := lw_g (lw_at lw_m4 143 rfl) rfl
theorem q1054 : (Jvm.Cond.static ({ cls := "jdk/internal/util/ArraysSupport", name := "mismatch", desc := "([B[BI)I" } : Jvm.MethodName)) ∈ lw_all := lw_g (lw_at lw_m5 64 rfl) rfl
theorem q1055 : (Jvm.Cond.code ({ cls := "jdk/internal/util/ArraysSupport", name := "mismatch", desc := "([B[BI)I" } : Jvm.MethodName) prog_68_method_13_code (4 : Nat) (Option.some Jvm.ClassFile.FieldType.int)) ∈ lw_all := lw_g (lw_at lw_m5 65 rfl) rfl
theorem q1056 : (Jvm.Cond.fieldLink "jdk/internal/util/ArraysSupport" (126 : Nat) "jdk/internal/misc/Unsafe" "ARRAY_BYTE_BASE_OFFSET" "I") ∈ lw_all := lw_g (lw_at lw_m5 66 rfl) rfl
theorem q1058 : (Jvm.Cond.fieldLink "jdk/internal/util/ArraysSupport" (129 : Nat) "jdk/internal/util/ArraysSupport" "LOG2_ARRAY_BYTE_INDEX_SCALE" "I") ∈ lw_all := lw_g (lw_at lw_m5 68 rfl) rfl
theorem q1059 : (Jvm.Cond.laysStatic "jdk/internal/util/ArraysSupport" "LOG2_ARRAY_BYTE_INDEX_SCALE" "I") ∈ lw_tbl := lw_at lw_m5 69 rfl
theorem q1060 : (Jvm.Cond.methodLink "jdk/internal/util/ArraysSupport" (122 : Nat) ({ cls := "jdk/internal/util/ArraysSupport", name := "vectorizedMismatch", desc := "(Ljava/lang/Object;JLjava/lang/Object;JII)I" } : Jvm.MethodName)) ∈ lw_all := lw_g (lw_at lw_m5 70 rfl) rfl
theorem q1061 : (Jvm.Cond.static ({ cls := "jdk/internal/util/ArraysSupport", name := "vectorizedMismatch", desc := "(Ljava/lang/Object;JLjava/lang/Object;JII)I" } : Jvm.MethodName)) ∈ lw_all := lw_g (lw_at lw_m5 71 rfl) rfl
theorem q1062 : (Jvm.Cond.code ({ cls := "jdk/internal/util/ArraysSupport", name := "vectorizedMismatch", desc := "(Ljava/lang/Object;JLjava/lang/Object;JII)I" } : Jvm.MethodName) prog_68_method_3_code (19 : Nat) (Option.some Jvm.ClassFile.FieldType.int)) ∈ lw_all := lw_g (lw_at lw_m5 72 rfl) rfl
theorem q1063 : (Jvm.Cond.fieldLink "jdk/internal/util/ArraysSupport" (20 : Nat) "jdk/internal/util/ArraysSupport" "LOG2_ARRAY_LONG_INDEX_SCALE" "I") ∈ lw_all := lw_g (lw_at lw_m5 73 rfl) rfl
theorem q1064 : (Jvm.Cond.laysStatic "jdk/internal/util/ArraysSupport" "LOG2_ARRAY_LONG_INDEX_SCALE" "I") ∈ lw_tbl := lw_at lw_m5 74 rfl
theorem q1065 : (Jvm.Cond.fieldLink "jdk/internal/util/ArraysSupport" (26 : Nat) "jdk/internal/util/ArraysSupport" "U" "Ljdk/internal/misc/Unsafe;") ∈ lw_all := lw_g (lw_at lw_m5 75 rfl) rfl
theorem q1066 : (Jvm.Cond.laysStatic "jdk/internal/util/ArraysSupport" "U" "Ljdk/internal/misc/Unsafe;") ∈ lw_tbl := lw_at lw_m5 76 rfl
theorem q1067 : (Jvm.Cond.methodLink "jdk/internal/util/ArraysSupport" (30 : Nat) ({ cls := "jdk/internal/misc/Unsafe", name := "getLongUnaligned", desc := "(Ljava/lang/Object;J)J" } : Jvm.MethodName)) ∈ lw_all := lw_g (lw_at lw_m5 77 rfl) rfl
theorem q1119 : (Jvm.Cond.fieldLink "jdk/internal/util/ArraysSupport" (36 : Nat) "jdk/internal/util/ArraysSupport" "BIG_ENDIAN" "Z") ∈ lw_all := lw_g (lw_at lw_m5 129 rfl) rfl
theorem q1120 : (Jvm.Cond.laysStatic "jdk/internal/util/ArraysSupport" "BIG_ENDIAN" "Z") ∈ lw_tbl := lw_at lw_m5 130 rfl
theorem q1121 : (Jvm.Cond.methodLink "jdk/internal/util/ArraysSupport" (40 : Nat) ({ cls := "java/lang/Long", name := "numberOfLeadingZeros", desc := "(J)I" } : Jvm.MethodName)) ∈ lw_all := lw_g (lw_at lw_m5 131 rfl) rfl
theorem q1128 : (Jvm.Cond.fieldLink "jdk/internal/util/ArraysSupport" (46 : Nat) "jdk/internal/util/ArraysSupport" "LOG2_BYTE_BIT_SIZE" "I") ∈ lw_all := lw_g (lw_at lw_m5 138 rfl) rfl
theorem q1129 : (Jvm.Cond.laysStatic "jdk/internal/util/ArraysSupport" "LOG2_BYTE_BIT_SIZE" "I") ∈ lw_tbl := lw_at lw_m5 139 rfl
theorem q1130 : (Jvm.Cond.methodLink "jdk/internal/util/ArraysSupport" (49 : Nat) ({ cls := "java/lang/Long", name := "numberOfTrailingZeros", desc := "(J)I" } : Jvm.MethodName)) ∈ lw_all := lw_g (lw_at lw_m5 140 rfl) rfl
theorem q1136 : (Jvm.Cond.fieldLink "jdk/internal/util/ArraysSupport" (51 : Nat) "jdk/internal/util/ArraysSupport" "LOG2_ARRAY_INT_INDEX_SCALE" "I") ∈ lw_all := lw_g (lw_at lw_m5 146 rfl) rfl
theorem q1137 : (Jvm.Cond.laysStatic "jdk/internal/util/ArraysSupport" "LOG2_ARRAY_INT_INDEX_SCALE" "I") ∈ lw_tbl := lw_at lw_m5 147 rfl
theorem q1138 : (Jvm.Cond.methodLink "jdk/internal/util/ArraysSupport" (54 : Nat) ({ cls := "jdk/internal/misc/Unsafe", name := "getIntUnaligned", desc := "(Ljava/lang/Object;J)I" } : Jvm.MethodName)) ∈ lw_all := lw_g (lw_at lw_m5 148 rfl) rfl
theorem q1155 : (Jvm.Cond.methodLink "jdk/internal/util/ArraysSupport" (58 : Nat) ({ cls := "java/lang/Integer", name := "numberOfLeadingZeros", desc := "(I)I" } : Jvm.MethodName)) ∈ lw_all := lw_g (lw_at lw_m5 165 rfl) rfl
theorem q1156 : (Jvm.Cond.methodLink "jdk/internal/util/ArraysSupport" (11 : Nat) ({ cls := "java/lang/Integer", name := "numberOfTrailingZeros", desc := "(I)I" } : Jvm.MethodName)) ∈ lw_all := lw_g (lw_at lw_m5 166 rfl) rfl
/-! java/lang/Math -/
set_option maxRecDepth 100000
def RJ12 : String := "java/lang/Math"
abbrev cJ12_max : ByteArray := prog_21_method_65_code
def yJ12_max : MethodName := ⟨RJ12, "max", "(II)I"⟩
def dkwJ12_max_0 : List UInt8 := [26, 27, 161, 0, 7, 26, 167, 0, 4, 27, 172]
abbrev dktJ12_max_0 : List UInt8 := dkwJ12_max_0 ++ []
theorem dksJ12_max_0 : cJ12_max.data.toList.drop 0 = dktJ12_max_0 := by decide +kernel
theorem dJ12_max_0 : decode cJ12_max 0 = .ok (.iload_n 0, 1) := dk_26 (dk_at dksJ12_max_0 0 rfl rfl)
theorem dJ12_max_1 : decode cJ12_max 1 = .ok (.iload_n 1, 1) := dk_27 (dk_at dksJ12_max_0 1 rfl rfl)
theorem dJ12_max_2 : decode cJ12_max 2 = .ok (.if_icmp .lt 7, 3) := dk_161 0 7 (dk_at dksJ12_max_0 2 rfl rfl)
theorem dJ12_max_5 : decode cJ12_max 5 = .ok (.iload_n 0, 1) := dk_26 (dk_at dksJ12_max_0 5 rfl rfl)
theorem dJ12_max_6 : decode cJ12_max 6 = .ok (.goto 4, 3) := dk_167 0 4 (dk_at dksJ12_max_0 6 rfl rfl)
theorem dJ12_max_9 : decode cJ12_max 9 = .ok (.iload_n 1, 1) := dk_27 (dk_at dksJ12_max_0 9 rfl rfl)
theorem dJ12_max_10 : decode cJ12_max 10 = .ok (.ireturn, 1) := dk_172 (dk_at dksJ12_max_0 10 rfl rfl)
abbrev cJ12_min : ByteArray := prog_21_method_69_code
def yJ12_min : MethodName := ⟨RJ12, "min", "(II)I"⟩
def dkwJ12_min_0 : List UInt8 := [26, 27, 163, 0, 7, 26, 167, 0, 4, 27, 172]
abbrev dktJ12_min_0 : List UInt8 := dkwJ12_min_0 ++ []
theorem dksJ12_min_0 : cJ12_min.data.toList.drop 0 = dktJ12_min_0 := by decide +kernel
theorem dJ12_min_0 : decode cJ12_min 0 = .ok (.iload_n 0, 1) := dk_26 (dk_at dksJ12_min_0 0 rfl rfl)
theorem dJ12_min_1 : decode cJ12_min 1 = .ok (.iload_n 1, 1) := dk_27 (dk_at dksJ12_min_0 1 rfl rfl)
theorem dJ12_min_2 : decode cJ12_min 2 = .ok (.if_icmp .gt 7, 3) := dk_163 0 7 (dk_at dksJ12_min_0 2 rfl rfl)
theorem dJ12_min_5 : decode cJ12_min 5 = .ok (.iload_n 0, 1) := dk_26 (dk_at dksJ12_min_0 5 rfl rfl)
theorem dJ12_min_6 : decode cJ12_min 6 = .ok (.goto 4, 3) := dk_167 0 4 (dk_at dksJ12_min_0 6 rfl rfl)
theorem dJ12_min_9 : decode cJ12_min 9 = .ok (.iload_n 1, 1) := dk_27 (dk_at dksJ12_min_0 9 rfl rfl)
theorem dJ12_min_10 : decode cJ12_min 10 = .ok (.ireturn, 1) := dk_172 (dk_at dksJ12_min_0 10 rfl rfl)
theorem q49 : (Jvm.Cond.initialized "java/lang/Math") ∈ lw_all := lw_g (lw_at lw_m1 19 rfl) rfl
theorem q521 : (Jvm.Cond.static ({ cls := "java/lang/Math", name := "max", desc := "(II)I" } : Jvm.MethodName)) ∈ lw_all := lw_g (lw_at lw_m3 11 rfl) rfl
theorem q522 : (Jvm.Cond.code ({ cls := "java/lang/Math", name := "max", desc := "(II)I" } : Jvm.MethodName) prog_21_method_65_code (2 : Nat) (Option.some Jvm.ClassFile.FieldType.int)) ∈ lw_all := lw_g (lw_at lw_m3 12 rfl) rfl
theorem q571 : (Jvm.Cond.static ({ cls := "java/lang/Math", name := "min", desc := "(II)I" } : Jvm.MethodName)) ∈ lw_all := lw_g (lw_at lw_m3 61 rfl) rfl
theorem q572 : (Jvm.Cond.code ({ cls := "java/lang/Math", name := "min", desc := "(II)I" } : Jvm.MethodName) prog_21_method_69_code (2 : Nat) (Option.some Jvm.ClassFile.FieldType.int)) ∈ lw_all := lw_g (lw_at lw_m3 62 rfl) rfl
/-! java/util/Arrays -/
set_option maxRecDepth 100000
def RJ13 : String := "java/util/Arrays"
abbrev cJ13_copyOf : ByteArray := prog_37_method_119_code
def yJ13_copyOf : MethodName := ⟨RJ13, "copyOf", "([Ljava/lang/Object;I)[Ljava/lang/Object;"⟩
def dkwJ13_copyOf_0 : List UInt8 := [42, 27, 42, 182, 0, 86, 184, 1, 44, 176]
abbrev dktJ13_copyOf_0 : List UInt8 := dkwJ13_copyOf_0 ++ []
theorem dksJ13_copyOf_0 : cJ13_copyOf.data.toList.drop 0 = dktJ13_copyOf_0 := by decide +kernel
theorem dJ13_copyOf_0 : decode cJ13_copyOf 0 = .ok (.aload_n 0, 1) := dk_42 (dk_at dksJ13_copyOf_0 0 rfl rfl)
theorem dJ13_copyOf_1 : decode cJ13_copyOf 1 = .ok (.iload_n 1, 1) := dk_27 (dk_at dksJ13_copyOf_0 1 rfl rfl)
theorem dJ13_copyOf_2 : decode cJ13_copyOf 2 = .ok (.aload_n 0, 1) := dk_42 (dk_at dksJ13_copyOf_0 2 rfl rfl)
theorem dJ13_copyOf_3 : decode cJ13_copyOf 3 = .ok (.invokevirtual 86, 3) := dk_182 0 86 (dk_at dksJ13_copyOf_0 3 rfl rfl)
theorem dJ13_copyOf_6 : decode cJ13_copyOf 6 = .ok (.invokestatic 300, 3) := dk_184 1 44 (dk_at dksJ13_copyOf_0 6 rfl rfl)
theorem dJ13_copyOf_9 : decode cJ13_copyOf 9 = .ok (.areturn, 1) := dk_176 (dk_at dksJ13_copyOf_0 9 rfl rfl)
abbrev cJ13_copyOf_2 : ByteArray := prog_37_method_120_code
def yJ13_copyOf_2 : MethodName := ⟨RJ13, "copyOf", "([Ljava/lang/Object;ILjava/lang/Class;)[Ljava/lang/Object;"⟩
def dkwJ13_copyOf_2_1 : List UInt8 := [78, 42, 3, 45, 3, 42, 190, 27, 184, 1, 48, 184, 0, 150, 45, 176]
abbrev dktJ13_copyOf_2_1 : List UInt8 := dkwJ13_copyOf_2_1 ++ []
def dkwJ13_copyOf_2_0 : List UInt8 := [44, 18, 110, 166, 0, 10, 27, 189, 0, 2, 167, 0, 14, 44, 182, 0, 90, 27, 184, 0, 95, 192, 0, 110]
abbrev dktJ13_copyOf_2_0 : List UInt8 := dkwJ13_copyOf_2_0 ++ dktJ13_copyOf_2_1
theorem dksJ13_copyOf_2_0 : cJ13_copyOf_2.data.toList.drop 0 = dktJ13_copyOf_2_0 := by decide +kernel
theorem dksJ13_copyOf_2_1 : cJ13_copyOf_2.data.toList.drop 24 = dktJ13_copyOf_2_1 := dk_seg dksJ13_copyOf_2_0 24 rfl rfl
theorem dJ13_copyOf_2_0 : decode cJ13_copyOf_2 0 = .ok (.aload_n 2, 1) := dk_44 (dk_at dksJ13_copyOf_2_0 0 rfl rfl)
theorem dJ13_copyOf_2_1 : decode cJ13_copyOf_2 1 = .ok (.ldc 110, 2) := dk_18 110 (dk_at dksJ13_copyOf_2_0 1 rfl rfl)
theorem dJ13_copyOf_2_3 : decode cJ13_copyOf_2 3 = .ok (.if_acmp .ne 10, 3) := dk_166 0 10 (dk_at dksJ13_copyOf_2_0 3 rfl rfl)
theorem dJ13_copyOf_2_6 : decode cJ13_copyOf_2 6 = .ok (.iload_n 1, 1) := dk_27 (dk_at dksJ13_copyOf_2_0 6 rfl rfl)
theorem dJ13_copyOf_2_7 : decode cJ13_copyOf_2 7 = .ok (.anewarray 2, 3) := dk_189 0 2 (dk_at dksJ13_copyOf_2_0 7 rfl rfl)
theorem dJ13_copyOf_2_10 : decode cJ13_copyOf_2 10 = .ok (.goto 14, 3) := dk_167 0 14 (dk_at dksJ13_copyOf_2_0 10 rfl rfl)
theorem dJ13_copyOf_2_13 : decode cJ13_copyOf_2 13 = .ok (.aload_n 2, 1) := dk_44 (dk_at dksJ13_copyOf_2_0 13 rfl rfl)
theorem dJ13_copyOf_2_14 : decode cJ13_copyOf_2 14 = .ok (.invokevirtual 90, 3) := dk_182 0 90 (dk_at dksJ13_copyOf_2_0 14 rfl rfl)
theorem dJ13_copyOf_2_17 : decode cJ13_copyOf_2 17 = .ok (.iload_n 1, 1) := dk_27 (dk_at dksJ13_copyOf_2_0 17 rfl rfl)
theorem dJ13_copyOf_2_18 : decode cJ13_copyOf_2 18 = .ok (.invokestatic 95, 3) := dk_184 0 95 (dk_at dksJ13_copyOf_2_0 18 rfl rfl)
theorem dJ13_copyOf_2_21 : decode cJ13_copyOf_2 21 = .ok (.checkcast 110, 3) := dk_192 0 110 (dk_at dksJ13_copyOf_2_0 21 rfl rfl)
theorem dJ13_copyOf_2_24 : decode cJ13_copyOf_2 24 = .ok (.astore_n 3, 1) := dk_78 (dk_at dksJ13_copyOf_2_1 0 rfl rfl)
theorem dJ13_copyOf_2_25 : decode cJ13_copyOf_2 25 = .ok (.aload_n 0, 1) := dk_42 (dk_at dksJ13_copyOf_2_1 1 rfl rfl)
theorem dJ13_copyOf_2_26 : decode cJ13_copyOf_2 26 = .ok (.iconst 0, 1) := dk_3 (dk_at dksJ13_copyOf_2_1 2 rfl rfl)
theorem dJ13_copyOf_2_27 : decode cJ13_copyOf_2 27 = .ok (.aload_n 3, 1) := dk_45 (dk_at dksJ13_copyOf_2_1 3 rfl rfl)
theorem dJ13_copyOf_2_28 : decode cJ13_copyOf_2 28 = .ok (.iconst 0, 1) := dk_3 (dk_at dksJ13_copyOf_2_1 4 rfl rfl)
theorem dJ13_copyOf_2_29 : decode cJ13_copyOf_2 29 = .ok (.aload_n 0, 1) := dk_42 (dk_at dksJ13_copyOf_2_1 5 rfl rfl)
theorem dJ13_copyOf_2_30 : decode cJ13_copyOf_2 30 = .ok (.arraylength, 1) := dk_190 (dk_at dksJ13_copyOf_2_1 6 rfl rfl)
theorem dJ13_copyOf_2_31 : decode cJ13_copyOf_2 31 = .ok (.iload_n 1, 1) := dk_27 (dk_at dksJ13_copyOf_2_1 7 rfl rfl)
theorem dJ13_copyOf_2_32 : decode cJ13_copyOf_2 32 = .ok (.invokestatic 304, 3) := dk_184 1 48 (dk_at dksJ13_copyOf_2_1 8 rfl rfl)
theorem dJ13_copyOf_2_35 : decode cJ13_copyOf_2 35 = .ok (.invokestatic 150, 3) := dk_184 0 150 (dk_at dksJ13_copyOf_2_1 11 rfl rfl)
theorem dJ13_copyOf_2_38 : decode cJ13_copyOf_2 38 = .ok (.aload_n 3, 1) := dk_45 (dk_at dksJ13_copyOf_2_1 14 rfl rfl)
theorem dJ13_copyOf_2_39 : decode cJ13_copyOf_2 39 = .ok (.areturn, 1) := dk_176 (dk_at dksJ13_copyOf_2_1 15 rfl rfl)
abbrev cJ13_copyOf_3 : ByteArray := prog_37_method_121_code
def yJ13_copyOf_3 : MethodName := ⟨RJ13, "copyOf", "([BI)[B"⟩
abbrev cJ13_fill : ByteArray := prog_37_method_110_code
def yJ13_fill : MethodName := ⟨RJ13, "fill", "([BIIB)V"⟩
abbrev cJ13_rangeCheck : ByteArray := prog_37_method_30_code
def yJ13_rangeCheck : MethodName := ⟨RJ13, "rangeCheck", "(III)V"⟩
abbrev cJ13_copyOfRange : ByteArray := prog_37_method_132_code
def yJ13_copyOfRange : MethodName := ⟨RJ13, "copyOfRange", "([BII)[B"⟩
def dkwJ13_copyOfRange_1 : List UInt8 := [176]
abbrev dktJ13_copyOfRange_1 : List UInt8 := dkwJ13_copyOfRange_1 ++ []
def dkwJ13_copyOfRange_0 : List UInt8 := [27, 154, 0, 9, 28, 42, 190, 159, 0, 10, 42, 27, 28, 184, 1, 83, 176, 42, 182, 1, 54, 192, 1, 55]
abbrev dktJ13_copyOfRange_0 : List UInt8 := dkwJ13_copyOfRange_0 ++ dktJ13_copyOfRange_1
theorem dksJ13_copyOfRange_0 : cJ13_copyOfRange.data.toList.drop 0 = dktJ13_copyOfRange_0 := by decide +kernel
theorem dksJ13_copyOfRange_1 : cJ13_copyOfRange.data.toList.drop 24 = dktJ13_copyOfRange_1 := dk_seg dksJ13_copyOfRange_0 24 rfl rfl
theorem dJ13_copyOfRange_0 : decode cJ13_copyOfRange 0 = .ok (.iload_n 1, 1) := dk_27 (dk_at dksJ13_copyOfRange_0 0 rfl rfl)
theorem dJ13_copyOfRange_1 : decode cJ13_copyOfRange 1 = .ok (.ifCond .ne 9, 3) := dk_154 0 9 (dk_at dksJ13_copyOfRange_0 1 rfl rfl)
theorem dJ13_copyOfRange_4 : decode cJ13_copyOfRange 4 = .ok (.iload_n 2, 1) := dk_28 (dk_at dksJ13_copyOfRange_0 4 rfl rfl)
theorem dJ13_copyOfRange_5 : decode cJ13_copyOfRange 5 = .ok (.aload_n 0, 1) := dk_42 (dk_at dksJ13_copyOfRange_0 5 rfl rfl)
theorem dJ13_copyOfRange_6 : decode cJ13_copyOfRange 6 = .ok (.arraylength, 1) := dk_190 (dk_at dksJ13_copyOfRange_0 6 rfl rfl)
theorem dJ13_copyOfRange_7 : decode cJ13_copyOfRange 7 = .ok (.if_icmp .eq 10, 3) := dk_159 0 10 (dk_at dksJ13_copyOfRange_0 7 rfl rfl)
theorem dJ13_copyOfRange_10 : decode cJ13_copyOfRange 10 = .ok (.aload_n 0, 1) := dk_42 (dk_at dksJ13_copyOfRange_0 10 rfl rfl)
theorem dJ13_copyOfRange_11 : decode cJ13_copyOfRange 11 = .ok (.iload_n 1, 1) := dk_27 (dk_at dksJ13_copyOfRange_0 11 rfl rfl)
theorem dJ13_copyOfRange_12 : decode cJ13_copyOfRange 12 = .ok (.iload_n 2, 1) := dk_28 (dk_at dksJ13_copyOfRange_0 12 rfl rfl)
theorem dJ13_copyOfRange_13 : decode cJ13_copyOfRange 13 = .ok (.invokestatic 339, 3) := dk_184 1 83 (dk_at dksJ13_copyOfRange_0 13 rfl rfl)
theorem dJ13_copyOfRange_16 : decode cJ13_copyOfRange 16 = .ok (.areturn, 1) := dk_176 (dk_at dksJ13_copyOfRange_0 16 rfl rfl)
theorem dJ13_copyOfRange_17 : decode cJ13_copyOfRange 17 = .ok (.aload_n 0, 1) := dk_42 (dk_at dksJ13_copyOfRange_0 17 rfl rfl)
theorem dJ13_copyOfRange_18 : decode cJ13_copyOfRange 18 = .ok (.invokevirtual 310, 3) := dk_182 1 54 (dk_at dksJ13_copyOfRange_0 18 rfl rfl)
theorem dJ13_copyOfRange_21 : decode cJ13_copyOfRange 21 = .ok (.checkcast 311, 3) := dk_192 1 55 (dk_at dksJ13_copyOfRange_0 21 rfl rfl)
theorem dJ13_copyOfRange_24 : decode cJ13_copyOfRange 24 = .ok (.areturn, 1) := dk_176 (dk_at dksJ13_copyOfRange_1 0 rfl rfl)
abbrev cJ13_copyOfRangeByte : ByteArray := prog_37_method_133_code
def yJ13_copyOfRangeByte : MethodName := ⟨RJ13, "copyOfRangeByte", "([BII)[B"⟩
def dkwJ13_copyOfRangeByte_1 : List UInt8 := [184, 1, 48, 184, 0, 150, 25, 4, 176]
abbrev dktJ13_copyOfRangeByte_1 : List UInt8 := dkwJ13_copyOfRangeByte_1 ++ []
def dkwJ13_copyOfRangeByte_0 : List UInt8 := [27, 28, 184, 1, 87, 28, 27, 100, 62, 29, 188, 8, 58, 4, 42, 27, 25, 4, 3, 42, 190, 27, 100, 29]
abbrev dktJ13_copyOfRangeByte_0 : List UInt8 := dkwJ13_copyOfRangeByte_0 ++ dktJ13_copyOfRangeByte_1
theorem dksJ13_copyOfRangeByte_0 : cJ13_copyOfRangeByte.data.toList.drop 0 = dktJ13_copyOfRangeByte_0 := by decide +kernel
theorem dksJ13_copyOfRangeByte_1 : cJ13_copyOfRangeByte.data.toList.drop 24 = dktJ13_copyOfRangeByte_1 := dk_seg dksJ13_copyOfRangeByte_0 24 rfl rfl
theorem dJ13_copyOfRangeByte_0 : decode cJ13_copyOfRangeByte 0 = .ok (.iload_n 1, 1) := dk_27 (dk_at dksJ13_copyOfRangeByte_0 0 rfl rfl)
theorem dJ13_copyOfRangeByte_1 : decode cJ13_copyOfRangeByte 1 = .ok (.iload_n 2, 1) := dk_28 (dk_at dksJ13_copyOfRangeByte_0 1 rfl rfl)
theorem dJ13_copyOfRangeByte_2 : decode cJ13_copyOfRangeByte 2 = .ok (.invokestatic 343, 3) := dk_184 1 87 (dk_at dksJ13_copyOfRangeByte_0 2 rfl rfl)
theorem dJ13_copyOfRangeByte_5 : decode cJ13_copyOfRangeByte 5 = .ok (.iload_n 2, 1) := dk_28 (dk_at dksJ13_copyOfRangeByte_0 5 rfl rfl)
theorem dJ13_copyOfRangeByte_6 : decode cJ13_copyOfRangeByte 6 = .ok (.iload_n 1, 1) := dk_27 (dk_at dksJ13_copyOfRangeByte_0 6 rfl rfl)
theorem dJ13_copyOfRangeByte_7 : decode cJ13_copyOfRangeByte 7 = .ok (.isub, 1) := dk_100 (dk_at dksJ13_copyOfRangeByte_0 7 rfl rfl)
theorem dJ13_copyOfRangeByte_8 : decode cJ13_copyOfRangeByte 8 = .ok (.istore_n 3, 1) := dk_62 (dk_at dksJ13_copyOfRangeByte_0 8 rfl rfl)
theorem dJ13_copyOfRangeByte_9 : decode cJ13_copyOfRangeByte 9 = .ok (.iload_n 3, 1) := dk_29 (dk_at dksJ13_copyOfRangeByte_0 9 rfl rfl)
theorem dJ13_copyOfRangeByte_10 : decode cJ13_copyOfRangeByte 10 = .ok (.newarray .byte, 2) := dk_188_8 (dk_at dksJ13_copyOfRangeByte_0 10 rfl rfl)
theorem dJ13_copyOfRangeByte_12 : decode cJ13_copyOfRangeByte 12 = .ok (.astore 4, 2) := dk_58 4 (dk_at dksJ13_copyOfRangeByte_0 12 rfl rfl)
theorem dJ13_copyOfRangeByte_14 : decode cJ13_copyOfRangeByte 14 = .ok (.aload_n 0, 1) := dk_42 (dk_at dksJ13_copyOfRangeByte_0 14 rfl rfl)
theorem dJ13_copyOfRangeByte_15 : decode cJ13_copyOfRangeByte 15 = .ok (.iload_n 1, 1) := dk_27 (dk_at dksJ13_copyOfRangeByte_0 15 rfl rfl)
theorem dJ13_copyOfRangeByte_16 : decode cJ13_copyOfRangeByte 16 = .ok (.aload 4, 2) := dk_25 4 (dk_at dksJ13_copyOfRangeByte_0 16 rfl rfl)
theorem dJ13_copyOfRangeByte_18 : decode cJ13_copyOfRangeByte 18 = .ok (.iconst 0, 1) := dk_3 (dk_at dksJ13_copyOfRangeByte_0 18 rfl rfl)
theorem dJ13_copyOfRangeByte_19 : decode cJ13_copyOfRangeByte 19 = .ok (.aload_n 0, 1) := dk_42 (dk_at dksJ13_copyOfRangeByte_0 19 rfl rfl)
theorem dJ13_copyOfRangeByte_20 : decode cJ13_copyOfRangeByte 20 = .ok (.arraylength, 1) := dk_190 (dk_at dksJ13_copyOfRangeByte_0 20 rfl rfl)
theorem dJ13_copyOfRangeByte_21 : decode cJ13_copyOfRangeByte 21 = .ok (.iload_n 1, 1) := dk_27 (dk_at dksJ13_copyOfRangeByte_0 21 rfl rfl)
theorem dJ13_copyOfRangeByte_22 : decode cJ13_copyOfRangeByte 22 = .ok (.isub, 1) := dk_100 (dk_at dksJ13_copyOfRangeByte_0 22 rfl rfl)
theorem dJ13_copyOfRangeByte_23 : decode cJ13_copyOfRangeByte 23 = .ok (.iload_n 3, 1) := dk_29 (dk_at dksJ13_copyOfRangeByte_0 23 rfl rfl)
theorem dJ13_copyOfRangeByte_24 : decode cJ13_copyOfRangeByte 24 = .ok (.invokestatic 304, 3) := dk_184 1 48 (dk_at dksJ13_copyOfRangeByte_1 0 rfl rfl)
theorem dJ13_copyOfRangeByte_27 : decode cJ13_copyOfRangeByte 27 = .ok (.invokestatic 150, 3) := dk_184 0 150 (dk_at dksJ13_copyOfRangeByte_1 3 rfl rfl)
theorem dJ13_copyOfRangeByte_30 : decode cJ13_copyOfRangeByte 30 = .ok (.aload 4, 2) := dk_25 4 (dk_at dksJ13_copyOfRangeByte_1 6 rfl rfl)
theorem dJ13_copyOfRangeByte_32 : decode cJ13_copyOfRangeByte 32 = .ok (.areturn, 1) := dk_176 (dk_at dksJ13_copyOfRangeByte_1 8 rfl rfl)
abbrev cJ13_checkLength : ByteArray := prog_37_method_131_code
def yJ13_checkLength : MethodName := ⟨RJ13, "checkLength", "(II)V"⟩
def dkwJ13_checkLength_1 : List UInt8 := [182, 0, 50, 27, 182, 0, 54, 182, 0, 61, 183, 0, 65, 191, 177]
abbrev dktJ13_checkLength_1 : List UInt8 := dkwJ13_checkLength_1 ++ []
def dkwJ13_checkLength_0 : List UInt8 := [27, 26, 162, 0, 35, 187, 0, 43, 89, 187, 0, 45, 89, 183, 0, 47, 26, 182, 0, 54, 19, 1, 81]
abbrev dktJ13_checkLength_0 : List UInt8 := dkwJ13_checkLength_0 ++ dktJ13_checkLength_1
theorem dksJ13_checkLength_0 : cJ13_checkLength.data.toList.drop 0 = dktJ13_checkLength_0 := by decide +kernel
theorem dksJ13_checkLength_1 : cJ13_checkLength.data.toList.drop 23 = dktJ13_checkLength_1 := dk_seg dksJ13_checkLength_0 23 rfl rfl
theorem dJ13_checkLength_0 : decode cJ13_checkLength 0 = .ok (.iload_n 1, 1) := dk_27 (dk_at dksJ13_checkLength_0 0 rfl rfl)
theorem dJ13_checkLength_1 : decode cJ13_checkLength 1 = .ok (.iload_n 0, 1) := dk_26 (dk_at dksJ13_checkLength_0 1 rfl rfl)
theorem dJ13_checkLength_2 : decode cJ13_checkLength 2 = .ok (.if_icmp .ge 35, 3) := dk_162 0 35 (dk_at dksJ13_checkLength_0 2 rfl rfl)
theorem dJ13_checkLength_5 : decode cJ13_checkLength 5 = .ok (.new 43, 3) := dk_187 0 43 (dk_at dksJ13_checkLength_0 5 rfl rfl)
theorem dJ13_checkLength_8 : decode cJ13_checkLength 8 = .ok (.dup, 1) := dk_89 (dk_at dksJ13_checkLength_0 8 rfl rfl)
theorem dJ13_checkLength_9 : decode cJ13_checkLength 9 = .ok (.new 45, 3) := dk_187 0 45 (dk_at dksJ13_checkLength_0 9 rfl rfl)
theorem dJ13_checkLength_12 : decode cJ13_checkLength 12 = .ok (.dup, 1) := dk_89 (dk_at dksJ13_checkLength_0 12 rfl rfl)
theorem dJ13_checkLength_13 : decode cJ13_checkLength 13 = .ok (.invokespecial 47, 3) := dk_183 0 47 (dk_at dksJ13_checkLength_0 13 rfl rfl)
theorem dJ13_checkLength_16 : decode cJ13_checkLength 16 = .ok (.iload_n 0, 1) := dk_26 (dk_at dksJ13_checkLength_0 16 rfl rfl)
theorem dJ13_checkLength_17 : decode cJ13_checkLength 17 = .ok (.invokevirtual 54, 3) := dk_182 0 54 (dk_at dksJ13_checkLength_0 17 rfl rfl)
theorem dJ13_checkLength_20 : decode cJ13_checkLength 20 = .ok (.ldc_w 337, 3) := dk_19 1 81 (dk_at dksJ13_checkLength_0 20 rfl rfl)
theorem dJ13_checkLength_23 : decode cJ13_checkLength 23 = .ok (.invokevirtual 50, 3) := dk_182 0 50 (dk_at dksJ13_checkLength_1 0 rfl rfl)
theorem dJ13_checkLength_26 : decode cJ13_checkLength 26 = .ok (.iload_n 1, 1) := dk_27 (dk_at dksJ13_checkLength_1 3 rfl rfl)
theorem dJ13_checkLength_27 : decode cJ13_checkLength 27 = .ok (.invokevirtual 54, 3) := dk_182 0 54 (dk_at dksJ13_checkLength_1 4 rfl rfl)
theorem dJ13_checkLength_30 : decode cJ13_checkLength 30 = .ok (.invokevirtual 61, 3) := dk_182 0 61 (dk_at dksJ13_checkLength_1 7 rfl rfl)
theorem dJ13_checkLength_33 : decode cJ13_checkLength 33 = .ok (.invokespecial 65, 3) := dk_183 0 65 (dk_at dksJ13_checkLength_1 10 rfl rfl)
theorem dJ13_checkLength_36 : decode cJ13_checkLength 36 = .ok (.athrow, 1) := dk_191 (dk_at dksJ13_checkLength_1 13 rfl rfl)
theorem dJ13_checkLength_37 : decode cJ13_checkLength 37 = .ok (.return_, 1) := dk_177 (dk_at dksJ13_checkLength_1 14 rfl rfl)
theorem q50 : (Jvm.Cond.initialized "java/util/Arrays") ∈ lw_all := lw_g (lw_at lw_m1 20 rfl) rfl
theorem q528 : (Jvm.Cond.static ({ cls := "java/util/Arrays", name := "copyOf", desc := "([Ljava/lang/Object;I)[Ljava/lang/Object;" } : Jvm.MethodName)) ∈ lw_all := lw_g (lw_at lw_m3 18 rfl) rfl
theorem q529 : (Jvm.Cond.code ({ cls := "java/util/Arrays", name := "copyOf", desc := "([Ljava/lang/Object;I)[Ljava/lang/Object;" } : Jvm.MethodName) prog_37_method_119_code (2 : Nat) (Option.some (Jvm.ClassFile.FieldType.array (Jvm.ClassFile.FieldType.object "java/lang/Object")))) ∈ lw_all := lw_g (lw_at lw_m3 19 rfl) rfl
theorem q530 : (Jvm.Cond.methodLink "java/util/Arrays" (86 : Nat) ({ cls := "java/lang/Object", name := "getClass", desc := "()Ljava/lang/Class;" } : Jvm.MethodName)) ∈ lw_all := lw_g (lw_at lw_m3 20 rfl) rfl
theorem q564 : (Jvm.Cond.methodLink "java/util/Arrays" (300 : Nat) ({ cls := "java/util/Arrays", name := "copyOf", desc := "([Ljava/lang/Object;ILjava/lang/Class;)[Ljava/lang/Object;" } : Jvm.MethodName)) ∈ lw_all := lw_g (lw_at lw_m3 54 rfl) rfl
theorem q565 : (Jvm.Cond.static ({ cls := "java/util/Arrays", name := "copyOf", desc := "([Ljava/lang/Object;ILjava/lang/Class;)[Ljava/lang/Object;" } : Jvm.MethodName)) ∈ lw_all := lw_g (lw_at lw_m3 55 rfl) rfl
theorem q566 : (Jvm.Cond.code ({ cls := "java/util/Arrays", name := "copyOf", desc := "([Ljava/lang/Object;ILjava/lang/Class;)[Ljava/lang/Object;" } : Jvm.MethodName) prog_37_method_120_code (4 : Nat) (Option.some (Jvm.ClassFile.FieldType.array (Jvm.ClassFile.FieldType.object "java/lang/Object")))) ∈ lw_all := lw_g (lw_at lw_m3 56 rfl) rfl
theorem q567 : (Jvm.Cond.classLink "java/util/Arrays" (110 : Nat) "[Ljava/lang/Object;") ∈ lw_all := lw_g (lw_at lw_m3 57 rfl) rfl
theorem q569 : (Jvm.Cond.classLink "java/util/Arrays" (2 : Nat) "java/lang/Object") ∈ lw_all := lw_g (lw_at lw_m3 59 rfl) rfl
theorem q570 : (Jvm.Cond.methodLink "java/util/Arrays" (304 : Nat) ({ cls := "java/lang/Math", name := "min", desc := "(II)I" } : Jvm.MethodName)) ∈ lw_all := lw_g (lw_at lw_m3 60 rfl) rfl
theorem q573 : (Jvm.Cond.methodLink "java/util/Arrays" (150 : Nat) ({ cls := "java/lang/System", name := "arraycopy", desc := "(Ljava/lang/Object;ILjava/lang/Object;II)V" } : Jvm.MethodName)) ∈ lw_all := lw_g (lw_at lw_m3 63 rfl) rfl
theorem q1562 : (Jvm.Cond.static ({ cls := "java/util/Arrays", name := "copyOf", desc := "([BI)[B" } : Jvm.MethodName)) ∈ lw_all := lw_g (lw_at lw_m7 92 rfl) rfl
theorem q1563 : (Jvm.Cond.code ({ cls := "java/util/Arrays", name := "copyOf", desc := "([BI)[B" } : Jvm.MethodName) prog_37_method_121_code (3 : Nat) (Option.some (Jvm.ClassFile.FieldType.array Jvm.ClassFile.FieldType.byte))) ∈ lw_all := lw_g (lw_at lw_m7 93 rfl) rfl
theorem q1564 : (Jvm.Cond.methodLink "java/util/Arrays" (310 : Nat) ({ cls := "[B", name := "clone", desc := "()Ljava/lang/Object;" } : Jvm.MethodName)) ∈ lw_all := lw_g (lw_at lw_m7 94 rfl) rfl
theorem q1570 : (Jvm.Cond.classLink "java/util/Arrays" (311 : Nat) "[B") ∈ lw_all := lw_g (lw_at lw_m7 100 rfl) rfl
theorem q1621 : (Jvm.Cond.static ({ cls := "java/util/Arrays", name := "fill", desc := "([BIIB)V" } : Jvm.MethodName)) ∈ lw_all := lw_g (lw_at lw_m7 151 rfl) rfl
theorem q1622 : (Jvm.Cond.code ({ cls := "java/util/Arrays", name := "fill", desc := "([BIIB)V" } : Jvm.MethodName) prog_37_method_110_code (5 : Nat) (Option.none : Option Jvm.ClassFile.FieldType)) ∈ lw_all := lw_g (lw_at lw_m7 152 rfl) rfl
theorem q1623 : (Jvm.Cond.methodLink "java/util/Arrays" (13 : Nat) ({ cls := "java/util/Arrays", name := "rangeCheck", desc := "(III)V" } : Jvm.MethodName)) ∈ lw_all := lw_g (lw_at lw_m7 153 rfl) rfl
theorem q1624 : (Jvm.Cond.static ({ cls := "java/util/Arrays", name := "rangeCheck", desc := "(III)V" } : Jvm.MethodName)) ∈ lw_all := lw_g (lw_at lw_m7 154 rfl) rfl
theorem q1625 : (Jvm.Cond.code ({ cls := "java/util/Arrays", name := "rangeCheck", desc := "(III)V" } : Jvm.MethodName) prog_37_method_30_code (3 : Nat) (Option.none : Option Jvm.ClassFile.FieldType)) ∈ lw_all := lw_g (lw_at lw_m7 155 rfl) rfl
theorem q1708 : (Jvm.Cond.static ({ cls := "java/util/Arrays", name := "copyOfRange", desc := "([BII)[B" } : Jvm.MethodName)) ∈ lw_all := lw_g (lw_at lw_m7 238 rfl) rfl
theorem q1709 : (Jvm.Cond.code ({ cls := "java/util/Arrays", name := "copyOfRange", desc := "([BII)[B" } : Jvm.MethodName) prog_37_method_132_code (3 : Nat) (Option.some (Jvm.ClassFile.FieldType.array Jvm.ClassFile.FieldType.byte))) ∈ lw_all := lw_g (lw_at lw_m7 239 rfl) rfl
theorem q1710 : (Jvm.Cond.methodLink "java/util/Arrays" (339 : Nat) ({ cls := "java/util/Arrays", name := "copyOfRangeByte", desc := "([BII)[B" } : Jvm.MethodName)) ∈ lw_all := lw_g (lw_at lw_m8 0 rfl) rfl
theorem q1711 : (Jvm.Cond.static ({ cls := "java/util/Arrays", name := "copyOfRangeByte", desc := "([BII)[B" } : Jvm.MethodName)) ∈ lw_all := lw_g (lw_at lw_m8 1 rfl) rfl
theorem q1712 : (Jvm.Cond.code ({ cls := "java/util/Arrays", name := "copyOfRangeByte", desc := "([BII)[B" } : Jvm.MethodName) prog_37_method_133_code (5 : Nat) (Option.some (Jvm.ClassFile.FieldType.array Jvm.ClassFile.FieldType.byte))) ∈ lw_all := lw_g (lw_at lw_m8 2 rfl) rfl
theorem q1713 : (Jvm.Cond.methodLink "java/util/Arrays" (343 : Nat) ({ cls := "java/util/Arrays", name := "checkLength", desc := "(II)V" } : Jvm.MethodName)) ∈ lw_all := lw_g (lw_at lw_m8 3 rfl) rfl
theorem q1714 : (Jvm.Cond.static ({ cls := "java/util/Arrays", name := "checkLength", desc := "(II)V" } : Jvm.MethodName)) ∈ lw_all := lw_g (lw_at lw_m8 4 rfl) rfl
theorem q1715 : (Jvm.Cond.code ({ cls := "java/util/Arrays", name := "checkLength", desc := "(II)V" } : Jvm.MethodName) prog_37_method_131_code (2 : Nat) (Option.none : Option Jvm.ClassFile.FieldType)) ∈ lw_all := lw_g (lw_at lw_m8 5 rfl) rfl
/-! java/util/AbstractSet -/
set_option maxRecDepth 100000
def RJ14 : String := "java/util/AbstractSet"
abbrev cJ14_init : ByteArray := prog_34_method_1_code
def yJ14_init : MethodName := ⟨RJ14, "<init>", "()V"⟩
theorem dJ14_init_0 : decode cJ14_init 0 = .ok (.aload_n 0, 1) := by decide +kernel
theorem dJ14_init_1 : decode cJ14_init 1 = .ok (.invokespecial 1, 3) := by decide +kernel
theorem dJ14_init_4 : decode cJ14_init 4 = .ok (.return_, 1) := by decide +kernel
theorem q52 : (Jvm.Cond.initialized "java/util/AbstractSet") ∈ lw_all := lw_g (lw_at lw_m1 22 rfl) rfl
theorem q595 : (Jvm.Cond.instanceMethod ({ cls := "java/util/AbstractSet", name := "<init>", desc := "()V" } : Jvm.MethodName)) ∈ lw_all := lw_g (lw_at lw_m3 85 rfl) rfl
theorem q596 : (Jvm.Cond.code ({ cls := "java/util/AbstractSet", name := "<init>", desc := "()V" } : Jvm.MethodName) prog_34_method_1_code (1 : Nat) (Option.none : Option Jvm.ClassFile.FieldType)) ∈ lw_all := lw_g (lw_at lw_m3 86 rfl) rfl
theorem q597 : (Jvm.Cond.methodLink "java/util/AbstractSet" (1 : Nat) ({ cls := "java/util/AbstractCollection", name := "<init>", desc := "()V" } : Jvm.MethodName)) ∈ lw_all := lw_g (lw_at lw_m3 87 rfl) rfl
/-! java/util/HashMap$EntrySet -/
set_option maxRecDepth 100000
def RJ15 : String := "java/util/HashMap$EntrySet"
def TJ15 : u_T := fun k => match k with
  | _ => ("java/util/HashMap$EntrySet", "this$0", "Ljava/util/HashMap;", true)
def tyJ15 : Nat → FieldType := fun k => match k with
  | _ => .object "java/util/HashMap"
abbrev wsJ150 : List Cond := u_ws RJ15 TJ15 1
theorem nmJ15 : ∀ a, a < 1 → ∀ b, b < 1 → a ≠ b → (TJ15 a).2.1 ≠ (TJ15 b).2.1 := by decide +kernel
theorem tyJ15_ok : ∀ k, k < 1 → parseFieldDescriptor (TJ15 k).2.2.1 = some (tyJ15 k) := by decide +kernel
abbrev cJ15_init : ByteArray := prog_41_method_1_code
def yJ15_init : MethodName := ⟨RJ15, "<init>", "(Ljava/util/HashMap;)V"⟩
abbrev cJ15_iterator : ByteArray := prog_41_method_4_code
def yJ15_iterator : MethodName := ⟨RJ15, "iterator", "()Ljava/util/Iterator;"⟩
theorem q53 : (Jvm.Cond.initialized "java/util/HashMap$EntrySet") ∈ lw_all := lw_g (lw_at lw_m1 23 rfl) rfl
theorem q550 : (Jvm.Cond.selects "java/util/HashMap$EntrySet" ({ cls := "java/lang/Object", name := "getClass", desc := "()Ljava/lang/Class;" } : Jvm.MethodName) ({ cls := "java/lang/Object", name := "getClass", desc := "()Ljava/lang/Class;" } : Jvm.MethodName)) ∈ lw_all := lw_g (lw_at lw_m3 40 rfl) rfl
theorem q590 : (Jvm.Cond.instantiable "java/util/HashMap$EntrySet" (1 : Nat)) ∈ lw_all := lw_g (lw_at lw_m3 80 rfl) rfl
theorem q592 : (Jvm.Cond.instanceMethod ({ cls := "java/util/HashMap$EntrySet", name := "<init>", desc := "(Ljava/util/HashMap;)V" } : Jvm.MethodName)) ∈ lw_all := lw_g (lw_at lw_m3 82 rfl) rfl
theorem q593 : (Jvm.Cond.code ({ cls := "java/util/HashMap$EntrySet", name := "<init>", desc := "(Ljava/util/HashMap;)V" } : Jvm.MethodName) prog_41_method_1_code (2 : Nat) (Option.none : Option Jvm.ClassFile.FieldType)) ∈ lw_all := lw_g (lw_at lw_m3 83 rfl) rfl
theorem q594 : (Jvm.Cond.methodLink "java/util/HashMap$EntrySet" (7 : Nat) ({ cls := "java/util/AbstractSet", name := "<init>", desc := "()V" } : Jvm.MethodName)) ∈ lw_all := lw_g (lw_at lw_m3 84 rfl) rfl
theorem q598 : (Jvm.Cond.fieldLink "java/util/HashMap$EntrySet" (1 : Nat) "java/util/HashMap$EntrySet" "this$0" "Ljava/util/HashMap;") ∈ lw_all := lw_g (lw_at lw_m3 88 rfl) rfl
theorem q599 : (Jvm.Cond.laysFinal "java/util/HashMap$EntrySet" "java/util/HashMap$EntrySet" "this$0" "Ljava/util/HashMap;") ∈ lw_all := lw_g (lw_at lw_m3 89 rfl) rfl
theorem q600 : (Jvm.Cond.soleField "java/util/HashMap$EntrySet" "this$0") ∈ lw_all := lw_g (lw_at lw_m3 90 rfl) rfl
theorem q601 : (Jvm.Cond.superclass "java/util/HashMap$EntrySet" "java/util/AbstractSet") ∈ lw_all := lw_g (lw_at lw_m3 91 rfl) rfl
theorem q630 : (Jvm.Cond.castable "java/util/HashMap$EntrySet" "java/util/Set") ∈ lw_tbl := lw_at lw_m3 120 rfl
theorem q631 : (Jvm.Cond.selects "java/util/HashMap$EntrySet" ({ cls := "java/util/Set", name := "iterator", desc := "()Ljava/util/Iterator;" } : Jvm.MethodName) ({ cls := "java/util/HashMap$EntrySet", name := "iterator", desc := "()Ljava/util/Iterator;" } : Jvm.MethodName)) ∈ lw_all := lw_g (lw_at lw_m3 121 rfl) rfl
theorem q632 : (Jvm.Cond.unhidden "java/util/HashMap$EntrySet" "iterator" "()Ljava/util/Iterator;") ∈ lw_tbl := lw_at lw_m3 122 rfl
theorem q633 : (Jvm.Cond.instanceMethod ({ cls := "java/util/HashMap$EntrySet", name := "iterator", desc := "()Ljava/util/Iterator;" } : Jvm.MethodName)) ∈ lw_all := lw_g (lw_at lw_m3 123 rfl) rfl
theorem q634 : (Jvm.Cond.publicMethod ({ cls := "java/util/HashMap$EntrySet", name := "iterator", desc := "()Ljava/util/Iterator;" } : Jvm.MethodName)) ∈ lw_tbl := lw_at lw_m3 124 rfl
theorem q635 : (Jvm.Cond.code ({ cls := "java/util/HashMap$EntrySet", name := "iterator", desc := "()Ljava/util/Iterator;" } : Jvm.MethodName) prog_41_method_4_code (1 : Nat) (Option.some (Jvm.ClassFile.FieldType.object "java/util/Iterator"))) ∈ lw_all := lw_g (lw_at lw_m3 125 rfl) rfl
theorem q636 : (Jvm.Cond.classLink "java/util/HashMap$EntrySet" (22 : Nat) "java/util/HashMap$EntryIterator") ∈ lw_all := lw_g (lw_at lw_m3 126 rfl) rfl
theorem q638 : (Jvm.Cond.methodLink "java/util/HashMap$EntrySet" (24 : Nat) ({ cls := "java/util/HashMap$EntryIterator", name := "<init>", desc := "(Ljava/util/HashMap;)V" } : Jvm.MethodName)) ∈ lw_all := lw_g (lw_at lw_m3 128 rfl) rfl
theorem q2431 : (Jvm.Cond.castable "java/util/HashMap$EntrySet" "java/lang/Object") ∈ lw_tbl := lw_at lw_m11 1 rfl
theorem in_J15 : ∀ w ∈ wsJ150, w ∈ lw_all := lw_in wsJ150 [599] (by decide +kernel) (by decide +kernel)
/-! java/util/LinkedHashMap$LinkedEntrySet -/
set_option maxRecDepth 100000
def RJ16 : String := "java/util/LinkedHashMap$LinkedEntrySet"
def TJ16 : u_T := fun k => match k with
  | 0 => ("java/util/LinkedHashMap$LinkedEntrySet", "reversed", "Z", true)
  | _ => ("java/util/LinkedHashMap$LinkedEntrySet", "this$0", "Ljava/util/LinkedHashMap;", true)
def tyJ16 : Nat → FieldType := fun k => match k with
  | 0 => .boolean
  | _ => .object "java/util/LinkedHashMap"
abbrev wsJ160 : List Cond := u_ws RJ16 TJ16 2
theorem nmJ16 : ∀ a, a < 2 → ∀ b, b < 2 → a ≠ b → (TJ16 a).2.1 ≠ (TJ16 b).2.1 := by decide +kernel
theorem tyJ16_ok : ∀ k, k < 2 → parseFieldDescriptor (TJ16 k).2.2.1 = some (tyJ16 k) := by decide +kernel
abbrev cJ16_init : ByteArray := prog_52_method_1_code
def yJ16_init : MethodName := ⟨RJ16, "<init>", "(Ljava/util/LinkedHashMap;Z)V"⟩
def dkwJ16_init_0 : List UInt8 := [42, 43, 181, 0, 1, 42, 183, 0, 7, 42, 28, 181, 0, 13, 177]
abbrev dktJ16_init_0 : List UInt8 := dkwJ16_init_0 ++ []
theorem dksJ16_init_0 : cJ16_init.data.toList.drop 0 = dktJ16_init_0 := by decide +kernel
theorem dJ16_init_0 : decode cJ16_init 0 = .ok (.aload_n 0, 1) := dk_42 (dk_at dksJ16_init_0 0 rfl rfl)
theorem dJ16_init_1 : decode cJ16_init 1 = .ok (.aload_n 1, 1) := dk_43 (dk_at dksJ16_init_0 1 rfl rfl)
theorem dJ16_init_2 : decode cJ16_init 2 = .ok (.putfield 1, 3) := dk_181 0 1 (dk_at dksJ16_init_0 2 rfl rfl)
theorem dJ16_init_5 : decode cJ16_init 5 = .ok (.aload_n 0, 1) := dk_42 (dk_at dksJ16_init_0 5 rfl rfl)
theorem dJ16_init_6 : decode cJ16_init 6 = .ok (.invokespecial 7, 3) := dk_183 0 7 (dk_at dksJ16_init_0 6 rfl rfl)
theorem dJ16_init_9 : decode cJ16_init 9 = .ok (.aload_n 0, 1) := dk_42 (dk_at dksJ16_init_0 9 rfl rfl)
theorem dJ16_init_10 : decode cJ16_init 10 = .ok (.iload_n 2, 1) := dk_28 (dk_at dksJ16_init_0 10 rfl rfl)
theorem dJ16_init_11 : decode cJ16_init 11 = .ok (.putfield 13, 3) := dk_181 0 13 (dk_at dksJ16_init_0 11 rfl rfl)
theorem dJ16_init_14 : decode cJ16_init 14 = .ok (.return_, 1) := dk_177 (dk_at dksJ16_init_0 14 rfl rfl)
abbrev cJ16_iterator : ByteArray := prog_52_method_4_code
def yJ16_iterator : MethodName := ⟨RJ16, "iterator", "()Ljava/util/Iterator;"⟩
def dkwJ16_iterator_0 : List UInt8 := [187, 0, 26, 89, 42, 180, 0, 1, 42, 180, 0, 13, 183, 0, 28, 176]
abbrev dktJ16_iterator_0 : List UInt8 := dkwJ16_iterator_0 ++ []
theorem dksJ16_iterator_0 : cJ16_iterator.data.toList.drop 0 = dktJ16_iterator_0 := by decide +kernel
theorem dJ16_iterator_0 : decode cJ16_iterator 0 = .ok (.new 26, 3) := dk_187 0 26 (dk_at dksJ16_iterator_0 0 rfl rfl)
theorem dJ16_iterator_3 : decode cJ16_iterator 3 = .ok (.dup, 1) := dk_89 (dk_at dksJ16_iterator_0 3 rfl rfl)
theorem dJ16_iterator_4 : decode cJ16_iterator 4 = .ok (.aload_n 0, 1) := dk_42 (dk_at dksJ16_iterator_0 4 rfl rfl)
theorem dJ16_iterator_5 : decode cJ16_iterator 5 = .ok (.getfield 1, 3) := dk_180 0 1 (dk_at dksJ16_iterator_0 5 rfl rfl)
theorem dJ16_iterator_8 : decode cJ16_iterator 8 = .ok (.aload_n 0, 1) := dk_42 (dk_at dksJ16_iterator_0 8 rfl rfl)
theorem dJ16_iterator_9 : decode cJ16_iterator 9 = .ok (.getfield 13, 3) := dk_180 0 13 (dk_at dksJ16_iterator_0 9 rfl rfl)
theorem dJ16_iterator_12 : decode cJ16_iterator 12 = .ok (.invokespecial 28, 3) := dk_183 0 28 (dk_at dksJ16_iterator_0 12 rfl rfl)
theorem dJ16_iterator_15 : decode cJ16_iterator 15 = .ok (.areturn, 1) := dk_176 (dk_at dksJ16_iterator_0 15 rfl rfl)
theorem q54 : (Jvm.Cond.initialized "java/util/LinkedHashMap$LinkedEntrySet") ∈ lw_all := lw_g (lw_at lw_m1 24 rfl) rfl
theorem q559 : (Jvm.Cond.selects "java/util/LinkedHashMap$LinkedEntrySet" ({ cls := "java/lang/Object", name := "getClass", desc := "()Ljava/lang/Class;" } : Jvm.MethodName) ({ cls := "java/lang/Object", name := "getClass", desc := "()Ljava/lang/Class;" } : Jvm.MethodName)) ∈ lw_all := lw_g (lw_at lw_m3 49 rfl) rfl
theorem q613 : (Jvm.Cond.instantiable "java/util/LinkedHashMap$LinkedEntrySet" (2 : Nat)) ∈ lw_all := lw_g (lw_at lw_m3 103 rfl) rfl
theorem q615 : (Jvm.Cond.instanceMethod ({ cls := "java/util/LinkedHashMap$LinkedEntrySet", name := "<init>", desc := "(Ljava/util/LinkedHashMap;Z)V" } : Jvm.MethodName)) ∈ lw_all := lw_g (lw_at lw_m3 105 rfl) rfl
theorem q616 : (Jvm.Cond.code ({ cls := "java/util/LinkedHashMap$LinkedEntrySet", name := "<init>", desc := "(Ljava/util/LinkedHashMap;Z)V" } : Jvm.MethodName) prog_52_method_1_code (3 : Nat) (Option.none : Option Jvm.ClassFile.FieldType)) ∈ lw_all := lw_g (lw_at lw_m3 106 rfl) rfl
theorem q617 : (Jvm.Cond.methodLink "java/util/LinkedHashMap$LinkedEntrySet" (7 : Nat) ({ cls := "java/util/AbstractSet", name := "<init>", desc := "()V" } : Jvm.MethodName)) ∈ lw_all := lw_g (lw_at lw_m3 107 rfl) rfl
theorem q618 : (Jvm.Cond.fieldLink "java/util/LinkedHashMap$LinkedEntrySet" (13 : Nat) "java/util/LinkedHashMap$LinkedEntrySet" "reversed" "Z") ∈ lw_all := lw_g (lw_at lw_m3 108 rfl) rfl
theorem q619 : (Jvm.Cond.fieldLink "java/util/LinkedHashMap$LinkedEntrySet" (1 : Nat) "java/util/LinkedHashMap$LinkedEntrySet" "this$0" "Ljava/util/LinkedHashMap;") ∈ lw_all := lw_g (lw_at lw_m3 109 rfl) rfl
theorem q620 : (Jvm.Cond.laysFinal "java/util/LinkedHashMap$LinkedEntrySet" "java/util/LinkedHashMap$LinkedEntrySet" "reversed" "Z") ∈ lw_all := lw_g (lw_at lw_m3 110 rfl) rfl
theorem q621 : (Jvm.Cond.soleField "java/util/LinkedHashMap$LinkedEntrySet" "reversed") ∈ lw_all := lw_g (lw_at lw_m3 111 rfl) rfl
theorem q622 : (Jvm.Cond.laysFinal "java/util/LinkedHashMap$LinkedEntrySet" "java/util/LinkedHashMap$LinkedEntrySet" "this$0" "Ljava/util/LinkedHashMap;") ∈ lw_all := lw_g (lw_at lw_m3 112 rfl) rfl
theorem q623 : (Jvm.Cond.soleField "java/util/LinkedHashMap$LinkedEntrySet" "this$0") ∈ lw_all := lw_g (lw_at lw_m3 113 rfl) rfl
theorem q624 : (Jvm.Cond.superclass "java/util/LinkedHashMap$LinkedEntrySet" "java/util/AbstractSet") ∈ lw_all := lw_g (lw_at lw_m3 114 rfl) rfl
theorem q722 : (Jvm.Cond.castable "java/util/LinkedHashMap$LinkedEntrySet" "java/util/Set") ∈ lw_tbl := lw_at lw_m3 212 rfl
theorem q723 : (Jvm.Cond.selects "java/util/LinkedHashMap$LinkedEntrySet" ({ cls := "java/util/Set", name := "iterator", desc := "()Ljava/util/Iterator;" } : Jvm.MethodName) ({ cls := "java/util/LinkedHashMap$LinkedEntrySet", name := "iterator", desc := "()Ljava/util/Iterator;" } : Jvm.MethodName)) ∈ lw_all := lw_g (lw_at lw_m3 213 rfl) rfl
theorem q724 : (Jvm.Cond.unhidden "java/util/LinkedHashMap$LinkedEntrySet" "iterator" "()Ljava/util/Iterator;") ∈ lw_tbl := lw_at lw_m3 214 rfl
theorem q725 : (Jvm.Cond.instanceMethod ({ cls := "java/util/LinkedHashMap$LinkedEntrySet", name := "iterator", desc := "()Ljava/util/Iterator;" } : Jvm.MethodName)) ∈ lw_all := lw_g (lw_at lw_m3 215 rfl) rfl
theorem q726 : (Jvm.Cond.publicMethod ({ cls := "java/util/LinkedHashMap$LinkedEntrySet", name := "iterator", desc := "()Ljava/util/Iterator;" } : Jvm.MethodName)) ∈ lw_tbl := lw_at lw_m3 216 rfl
theorem q727 : (Jvm.Cond.code ({ cls := "java/util/LinkedHashMap$LinkedEntrySet", name := "iterator", desc := "()Ljava/util/Iterator;" } : Jvm.MethodName) prog_52_method_4_code (1 : Nat) (Option.some (Jvm.ClassFile.FieldType.object "java/util/Iterator"))) ∈ lw_all := lw_g (lw_at lw_m3 217 rfl) rfl
theorem q728 : (Jvm.Cond.classLink "java/util/LinkedHashMap$LinkedEntrySet" (26 : Nat) "java/util/LinkedHashMap$LinkedEntryIterator") ∈ lw_all := lw_g (lw_at lw_m3 218 rfl) rfl
theorem q730 : (Jvm.Cond.methodLink "java/util/LinkedHashMap$LinkedEntrySet" (28 : Nat) ({ cls := "java/util/LinkedHashMap$LinkedEntryIterator", name := "<init>", desc := "(Ljava/util/LinkedHashMap;Z)V" } : Jvm.MethodName)) ∈ lw_all := lw_g (lw_at lw_m3 220 rfl) rfl
theorem q2406 : (Jvm.Cond.castable "java/util/LinkedHashMap$LinkedEntrySet" "java/util/SequencedSet") ∈ lw_tbl := lw_at lw_m10 216 rfl
theorem q2421 : (Jvm.Cond.castable "java/util/LinkedHashMap$LinkedEntrySet" "java/lang/Object") ∈ lw_tbl := lw_at lw_m10 231 rfl
theorem in_J16 : ∀ w ∈ wsJ160, w ∈ lw_all := lw_in wsJ160 [620, 622] (by decide +kernel) (by decide +kernel)
/-! java/util/HashMap$HashIterator -/
set_option maxRecDepth 100000
def RJ17 : String := "java/util/HashMap$HashIterator"
abbrev cJ17_hasNext : ByteArray := prog_42_method_2_code
def yJ17_hasNext : MethodName := ⟨RJ17, "hasNext", "()Z"⟩
abbrev cJ17_nextNode : ByteArray := prog_42_method_3_code
def yJ17_nextNode : MethodName := ⟨RJ17, "nextNode", "()Ljava/util/HashMap$Node;"⟩
abbrev cJ17_init : ByteArray := prog_42_method_1_code
def yJ17_init : MethodName := ⟨RJ17, "<init>", "(Ljava/util/HashMap;)V"⟩
theorem q55 : (Jvm.Cond.initialized "java/util/HashMap$HashIterator") ∈ lw_all := lw_g (lw_at lw_m1 25 rfl) rfl
theorem q141 : (Jvm.Cond.fieldLink "java/util/HashMap$HashIterator" (22 : Nat) "java/util/HashMap" "table" "[Ljava/util/HashMap$Node;") ∈ lw_all := lw_g (lw_at lw_m1 111 rfl) rfl
theorem q146 : (Jvm.Cond.fieldLink "java/util/HashMap$HashIterator" (36 : Nat) "java/util/HashMap" "size" "I") ∈ lw_all := lw_g (lw_at lw_m1 116 rfl) rfl
theorem q148 : (Jvm.Cond.fieldLink "java/util/HashMap$HashIterator" (13 : Nat) "java/util/HashMap" "modCount" "I") ∈ lw_all := lw_g (lw_at lw_m1 118 rfl) rfl
theorem q383 : (Jvm.Cond.instanceMethod ({ cls := "java/util/HashMap$HashIterator", name := "hasNext", desc := "()Z" } : Jvm.MethodName)) ∈ lw_all := lw_g (lw_at lw_m2 113 rfl) rfl
theorem q384 : (Jvm.Cond.publicMethod ({ cls := "java/util/HashMap$HashIterator", name := "hasNext", desc := "()Z" } : Jvm.MethodName)) ∈ lw_tbl := lw_at lw_m2 114 rfl
theorem q385 : (Jvm.Cond.code ({ cls := "java/util/HashMap$HashIterator", name := "hasNext", desc := "()Z" } : Jvm.MethodName) prog_42_method_2_code (1 : Nat) (Option.some Jvm.ClassFile.FieldType.boolean)) ∈ lw_all := lw_g (lw_at lw_m2 115 rfl) rfl
theorem q422 : (Jvm.Cond.declares ({ cls := "java/util/HashMap$HashIterator", name := "nextNode", desc := "()Ljava/util/HashMap$Node;" } : Jvm.MethodName)) ∈ lw_tbl := lw_at lw_m2 152 rfl
theorem q424 : (Jvm.Cond.instanceMethod ({ cls := "java/util/HashMap$HashIterator", name := "nextNode", desc := "()Ljava/util/HashMap$Node;" } : Jvm.MethodName)) ∈ lw_all := lw_g (lw_at lw_m2 154 rfl) rfl
theorem q425 : (Jvm.Cond.code ({ cls := "java/util/HashMap$HashIterator", name := "nextNode", desc := "()Ljava/util/HashMap$Node;" } : Jvm.MethodName) prog_42_method_3_code (3 : Nat) (Option.some (Jvm.ClassFile.FieldType.object "java/util/HashMap$Node"))) ∈ lw_all := lw_g (lw_at lw_m2 155 rfl) rfl
theorem q642 : (Jvm.Cond.instanceMethod ({ cls := "java/util/HashMap$HashIterator", name := "<init>", desc := "(Ljava/util/HashMap;)V" } : Jvm.MethodName)) ∈ lw_all := lw_g (lw_at lw_m3 132 rfl) rfl
theorem q643 : (Jvm.Cond.code ({ cls := "java/util/HashMap$HashIterator", name := "<init>", desc := "(Ljava/util/HashMap;)V" } : Jvm.MethodName) prog_42_method_1_code (3 : Nat) (Option.none : Option Jvm.ClassFile.FieldType)) ∈ lw_all := lw_g (lw_at lw_m3 133 rfl) rfl
theorem q644 : (Jvm.Cond.methodLink "java/util/HashMap$HashIterator" (7 : Nat) ({ cls := "java/lang/Object", name := "<init>", desc := "()V" } : Jvm.MethodName)) ∈ lw_all := lw_g (lw_at lw_m3 134 rfl) rfl
theorem q645 : (Jvm.Cond.fieldLink "java/util/HashMap$HashIterator" (26 : Nat) "java/util/HashMap$HashIterator" "next" "Ljava/util/HashMap$Node;") ∈ lw_all := lw_g (lw_at lw_m3 135 rfl) rfl
theorem q646 : (Jvm.Cond.fieldLink "java/util/HashMap$HashIterator" (30 : Nat) "java/util/HashMap$HashIterator" "current" "Ljava/util/HashMap$Node;") ∈ lw_all := lw_g (lw_at lw_m3 136 rfl) rfl
theorem q647 : (Jvm.Cond.fieldLink "java/util/HashMap$HashIterator" (19 : Nat) "java/util/HashMap$HashIterator" "expectedModCount" "I") ∈ lw_all := lw_g (lw_at lw_m3 137 rfl) rfl
theorem q648 : (Jvm.Cond.fieldLink "java/util/HashMap$HashIterator" (33 : Nat) "java/util/HashMap$HashIterator" "index" "I") ∈ lw_all := lw_g (lw_at lw_m3 138 rfl) rfl
theorem q649 : (Jvm.Cond.fieldLink "java/util/HashMap$HashIterator" (1 : Nat) "java/util/HashMap$HashIterator" "this$0" "Ljava/util/HashMap;") ∈ lw_all := lw_g (lw_at lw_m3 139 rfl) rfl
theorem q651 : (Jvm.Cond.soleField "java/util/HashMap$HashIterator" "next") ∈ lw_all := lw_g (lw_at lw_m3 141 rfl) rfl
theorem q653 : (Jvm.Cond.soleField "java/util/HashMap$HashIterator" "current") ∈ lw_all := lw_g (lw_at lw_m3 143 rfl) rfl
theorem q655 : (Jvm.Cond.soleField "java/util/HashMap$HashIterator" "expectedModCount") ∈ lw_all := lw_g (lw_at lw_m3 145 rfl) rfl
theorem q657 : (Jvm.Cond.soleField "java/util/HashMap$HashIterator" "index") ∈ lw_all := lw_g (lw_at lw_m3 147 rfl) rfl
theorem q659 : (Jvm.Cond.soleField "java/util/HashMap$HashIterator" "this$0") ∈ lw_all := lw_g (lw_at lw_m3 149 rfl) rfl
theorem q969 : (Jvm.Cond.fieldLink "java/util/HashMap$HashIterator" (45 : Nat) "java/util/HashMap$Node" "next" "Ljava/util/HashMap$Node;") ∈ lw_all := lw_g (lw_at lw_m4 219 rfl) rfl
/-! java/util/HashMap$EntryIterator -/
set_option maxRecDepth 100000
def RJ18 : String := "java/util/HashMap$EntryIterator"
def TJ18 : u_T := fun k => match k with
  | 0 => ("java/util/HashMap$HashIterator", "next", "Ljava/util/HashMap$Node;", false)
  | 1 => ("java/util/HashMap$HashIterator", "current", "Ljava/util/HashMap$Node;", false)
  | 2 => ("java/util/HashMap$HashIterator", "expectedModCount", "I", false)
  | 3 => ("java/util/HashMap$HashIterator", "index", "I", false)
  | _ => ("java/util/HashMap$HashIterator", "this$0", "Ljava/util/HashMap;", true)
def tyJ18 : Nat → FieldType := fun k => match k with
  | 0 => .object "java/util/HashMap$Node"
  | 1 => .object "java/util/HashMap$Node"
  | 2 => .int
  | 3 => .int
  | _ => .object "java/util/HashMap"
abbrev wsJ180 : List Cond := u_ws RJ18 TJ18 5
theorem nmJ18 : ∀ a, a < 5 → ∀ b, b < 5 → a ≠ b → (TJ18 a).2.1 ≠ (TJ18 b).2.1 := by decide +kernel
theorem tyJ18_ok : ∀ k, k < 5 → parseFieldDescriptor (TJ18 k).2.2.1 = some (tyJ18 k) := by decide +kernel
abbrev cJ18_next : ByteArray := prog_40_method_3_code
def yJ18_next : MethodName := ⟨RJ18, "next", "()Ljava/lang/Object;"⟩
abbrev cJ18_next_2 : ByteArray := prog_40_method_2_code
def yJ18_next_2 : MethodName := ⟨RJ18, "next", "()Ljava/util/Map$Entry;"⟩
abbrev cJ18_init : ByteArray := prog_40_method_1_code
def yJ18_init : MethodName := ⟨RJ18, "<init>", "(Ljava/util/HashMap;)V"⟩
theorem q56 : (Jvm.Cond.initialized "java/util/HashMap$EntryIterator") ∈ lw_all := lw_g (lw_at lw_m1 26 rfl) rfl
theorem q380 : (Jvm.Cond.castable "java/util/HashMap$EntryIterator" "java/util/Iterator") ∈ lw_tbl := lw_at lw_m2 110 rfl
theorem q381 : (Jvm.Cond.selects "java/util/HashMap$EntryIterator" ({ cls := "java/util/Iterator", name := "hasNext", desc := "()Z" } : Jvm.MethodName) ({ cls := "java/util/HashMap$HashIterator", name := "hasNext", desc := "()Z" } : Jvm.MethodName)) ∈ lw_all := lw_g (lw_at lw_m2 111 rfl) rfl
theorem q382 : (Jvm.Cond.unhidden "java/util/HashMap$EntryIterator" "hasNext" "()Z") ∈ lw_tbl := lw_at lw_m2 112 rfl
theorem q411 : (Jvm.Cond.selects "java/util/HashMap$EntryIterator" ({ cls := "java/util/Iterator", name := "next", desc := "()Ljava/lang/Object;" } : Jvm.MethodName) ({ cls := "java/util/HashMap$EntryIterator", name := "next", desc := "()Ljava/lang/Object;" } : Jvm.MethodName)) ∈ lw_all := lw_g (lw_at lw_m2 141 rfl) rfl
theorem q412 : (Jvm.Cond.unhidden "java/util/HashMap$EntryIterator" "next" "()Ljava/lang/Object;") ∈ lw_tbl := lw_at lw_m2 142 rfl
theorem q413 : (Jvm.Cond.instanceMethod ({ cls := "java/util/HashMap$EntryIterator", name := "next", desc := "()Ljava/lang/Object;" } : Jvm.MethodName)) ∈ lw_all := lw_g (lw_at lw_m2 143 rfl) rfl
theorem q414 : (Jvm.Cond.publicMethod ({ cls := "java/util/HashMap$EntryIterator", name := "next", desc := "()Ljava/lang/Object;" } : Jvm.MethodName)) ∈ lw_tbl := lw_at lw_m2 144 rfl
theorem q415 : (Jvm.Cond.code ({ cls := "java/util/HashMap$EntryIterator", name := "next", desc := "()Ljava/lang/Object;" } : Jvm.MethodName) prog_40_method_3_code (1 : Nat) (Option.some (Jvm.ClassFile.FieldType.object "java/lang/Object"))) ∈ lw_all := lw_g (lw_at lw_m2 145 rfl) rfl
theorem q416 : (Jvm.Cond.methodLink "java/util/HashMap$EntryIterator" (13 : Nat) ({ cls := "java/util/HashMap$EntryIterator", name := "next", desc := "()Ljava/util/Map$Entry;" } : Jvm.MethodName)) ∈ lw_all := lw_g (lw_at lw_m2 146 rfl) rfl
theorem q417 : (Jvm.Cond.instanceMethod ({ cls := "java/util/HashMap$EntryIterator", name := "next", desc := "()Ljava/util/Map$Entry;" } : Jvm.MethodName)) ∈ lw_all := lw_g (lw_at lw_m2 147 rfl) rfl
theorem q418 : (Jvm.Cond.selects "java/util/HashMap$EntryIterator" ({ cls := "java/util/HashMap$EntryIterator", name := "next", desc := "()Ljava/util/Map$Entry;" } : Jvm.MethodName) ({ cls := "java/util/HashMap$EntryIterator", name := "next", desc := "()Ljava/util/Map$Entry;" } : Jvm.MethodName)) ∈ lw_all := lw_g (lw_at lw_m2 148 rfl) rfl
theorem q419 : (Jvm.Cond.code ({ cls := "java/util/HashMap$EntryIterator", name := "next", desc := "()Ljava/util/Map$Entry;" } : Jvm.MethodName) prog_40_method_2_code (1 : Nat) (Option.some (Jvm.ClassFile.FieldType.object "java/util/Map$Entry"))) ∈ lw_all := lw_g (lw_at lw_m2 149 rfl) rfl
theorem q420 : (Jvm.Cond.methodLink "java/util/HashMap$EntryIterator" (7 : Nat) ({ cls := "java/util/HashMap$EntryIterator", name := "nextNode", desc := "()Ljava/util/HashMap$Node;" } : Jvm.MethodName)) ∈ lw_all := lw_g (lw_at lw_m2 150 rfl) rfl
theorem q421 : (Jvm.Cond.sameMethod "java/util/HashMap$EntryIterator" "java/util/HashMap$HashIterator" "nextNode" "()Ljava/util/HashMap$Node;") ∈ lw_all := lw_g (lw_at lw_m2 151 rfl) rfl
theorem q423 : (Jvm.Cond.selects "java/util/HashMap$EntryIterator" ({ cls := "java/util/HashMap$EntryIterator", name := "nextNode", desc := "()Ljava/util/HashMap$Node;" } : Jvm.MethodName) ({ cls := "java/util/HashMap$HashIterator", name := "nextNode", desc := "()Ljava/util/HashMap$Node;" } : Jvm.MethodName)) ∈ lw_all := lw_g (lw_at lw_m2 153 rfl) rfl
theorem q549 : (Jvm.Cond.selects "java/util/HashMap$EntryIterator" ({ cls := "java/lang/Object", name := "getClass", desc := "()Ljava/lang/Class;" } : Jvm.MethodName) ({ cls := "java/lang/Object", name := "getClass", desc := "()Ljava/lang/Class;" } : Jvm.MethodName)) ∈ lw_all := lw_g (lw_at lw_m3 39 rfl) rfl
theorem q637 : (Jvm.Cond.instantiable "java/util/HashMap$EntryIterator" (5 : Nat)) ∈ lw_all := lw_g (lw_at lw_m3 127 rfl) rfl
theorem q639 : (Jvm.Cond.instanceMethod ({ cls := "java/util/HashMap$EntryIterator", name := "<init>", desc := "(Ljava/util/HashMap;)V" } : Jvm.MethodName)) ∈ lw_all := lw_g (lw_at lw_m3 129 rfl) rfl
theorem q640 : (Jvm.Cond.code ({ cls := "java/util/HashMap$EntryIterator", name := "<init>", desc := "(Ljava/util/HashMap;)V" } : Jvm.MethodName) prog_40_method_1_code (2 : Nat) (Option.none : Option Jvm.ClassFile.FieldType)) ∈ lw_all := lw_g (lw_at lw_m3 130 rfl) rfl
theorem q641 : (Jvm.Cond.methodLink "java/util/HashMap$EntryIterator" (1 : Nat) ({ cls := "java/util/HashMap$HashIterator", name := "<init>", desc := "(Ljava/util/HashMap;)V" } : Jvm.MethodName)) ∈ lw_all := lw_g (lw_at lw_m3 131 rfl) rfl
theorem q650 : (Jvm.Cond.lays "java/util/HashMap$EntryIterator" "java/util/HashMap$HashIterator" "next" "Ljava/util/HashMap$Node;") ∈ lw_all := lw_g (lw_at lw_m3 140 rfl) rfl
theorem q652 : (Jvm.Cond.lays "java/util/HashMap$EntryIterator" "java/util/HashMap$HashIterator" "current" "Ljava/util/HashMap$Node;") ∈ lw_all := lw_g (lw_at lw_m3 142 rfl) rfl
theorem q654 : (Jvm.Cond.lays "java/util/HashMap$EntryIterator" "java/util/HashMap$HashIterator" "expectedModCount" "I") ∈ lw_all := lw_g (lw_at lw_m3 144 rfl) rfl
theorem q656 : (Jvm.Cond.lays "java/util/HashMap$EntryIterator" "java/util/HashMap$HashIterator" "index" "I") ∈ lw_all := lw_g (lw_at lw_m3 146 rfl) rfl
theorem q658 : (Jvm.Cond.laysFinal "java/util/HashMap$EntryIterator" "java/util/HashMap$HashIterator" "this$0" "Ljava/util/HashMap;") ∈ lw_all := lw_g (lw_at lw_m3 148 rfl) rfl
theorem q660 : (Jvm.Cond.superclass "java/util/HashMap$EntryIterator" "java/util/HashMap$HashIterator") ∈ lw_all := lw_g (lw_at lw_m3 150 rfl) rfl
theorem q2432 : (Jvm.Cond.castable "java/util/HashMap$EntryIterator" "java/lang/Object") ∈ lw_tbl := lw_at lw_m11 2 rfl
theorem in_J18 : ∀ w ∈ wsJ180, w ∈ lw_all := lw_in wsJ180 [650, 652, 654, 656, 658] (by decide +kernel) (by decide +kernel)
/-! java/util/HashMap$KeyIterator -/
set_option maxRecDepth 100000
def RJ19 : String := "java/util/HashMap$KeyIterator"
def TJ19 : u_T := fun k => match k with
  | 0 => ("java/util/HashMap$HashIterator", "next", "Ljava/util/HashMap$Node;", false)
  | 1 => ("java/util/HashMap$HashIterator", "current", "Ljava/util/HashMap$Node;", false)
  | 2 => ("java/util/HashMap$HashIterator", "expectedModCount", "I", false)
  | 3 => ("java/util/HashMap$HashIterator", "index", "I", false)
  | _ => ("java/util/HashMap$HashIterator", "this$0", "Ljava/util/HashMap;", true)
def tyJ19 : Nat → FieldType := fun k => match k with
  | 0 => .object "java/util/HashMap$Node"
  | 1 => .object "java/util/HashMap$Node"
  | 2 => .int
  | 3 => .int
  | _ => .object "java/util/HashMap"
abbrev wsJ190 : List Cond := u_ws RJ19 TJ19 5
theorem nmJ19 : ∀ a, a < 5 → ∀ b, b < 5 → a ≠ b → (TJ19 a).2.1 ≠ (TJ19 b).2.1 := by decide +kernel
theorem tyJ19_ok : ∀ k, k < 5 → parseFieldDescriptor (TJ19 k).2.2.1 = some (tyJ19 k) := by decide +kernel
abbrev cJ19_next : ByteArray := prog_43_method_2_code
def yJ19_next : MethodName := ⟨RJ19, "next", "()Ljava/lang/Object;"⟩
abbrev cJ19_init : ByteArray := prog_43_method_1_code
def yJ19_init : MethodName := ⟨RJ19, "<init>", "(Ljava/util/HashMap;)V"⟩
theorem q57 : (Jvm.Cond.initialized "java/util/HashMap$KeyIterator") ∈ lw_all := lw_g (lw_at lw_m1 27 rfl) rfl
theorem q386 : (Jvm.Cond.castable "java/util/HashMap$KeyIterator" "java/util/Iterator") ∈ lw_tbl := lw_at lw_m2 116 rfl
theorem q387 : (Jvm.Cond.selects "java/util/HashMap$KeyIterator" ({ cls := "java/util/Iterator", name := "hasNext", desc := "()Z" } : Jvm.MethodName) ({ cls := "java/util/HashMap$HashIterator", name := "hasNext", desc := "()Z" } : Jvm.MethodName)) ∈ lw_all := lw_g (lw_at lw_m2 117 rfl) rfl
theorem q388 : (Jvm.Cond.unhidden "java/util/HashMap$KeyIterator" "hasNext" "()Z") ∈ lw_tbl := lw_at lw_m2 118 rfl
theorem q426 : (Jvm.Cond.selects "java/util/HashMap$KeyIterator" ({ cls := "java/util/Iterator", name := "next", desc := "()Ljava/lang/Object;" } : Jvm.MethodName) ({ cls := "java/util/HashMap$KeyIterator", name := "next", desc := "()Ljava/lang/Object;" } : Jvm.MethodName)) ∈ lw_all := lw_g (lw_at lw_m2 156 rfl) rfl
theorem q427 : (Jvm.Cond.unhidden "java/util/HashMap$KeyIterator" "next" "()Ljava/lang/Object;") ∈ lw_tbl := lw_at lw_m2 157 rfl
theorem q428 : (Jvm.Cond.instanceMethod ({ cls := "java/util/HashMap$KeyIterator", name := "next", desc := "()Ljava/lang/Object;" } : Jvm.MethodName)) ∈ lw_all := lw_g (lw_at lw_m2 158 rfl) rfl
theorem q429 : (Jvm.Cond.publicMethod ({ cls := "java/util/HashMap$KeyIterator", name := "next", desc := "()Ljava/lang/Object;" } : Jvm.MethodName)) ∈ lw_tbl := lw_at lw_m2 159 rfl
theorem q430 : (Jvm.Cond.code ({ cls := "java/util/HashMap$KeyIterator", name := "next", desc := "()Ljava/lang/Object;" } : Jvm.MethodName) prog_43_method_2_code (1 : Nat) (Option.some (Jvm.ClassFile.FieldType.object "java/lang/Object"))) ∈ lw_all := lw_g (lw_at lw_m2 160 rfl) rfl
theorem q431 : (Jvm.Cond.methodLink "java/util/HashMap$KeyIterator" (7 : Nat) ({ cls := "java/util/HashMap$KeyIterator", name := "nextNode", desc := "()Ljava/util/HashMap$Node;" } : Jvm.MethodName)) ∈ lw_all := lw_g (lw_at lw_m2 161 rfl) rfl
theorem q432 : (Jvm.Cond.sameMethod "java/util/HashMap$KeyIterator" "java/util/HashMap$HashIterator" "nextNode" "()Ljava/util/HashMap$Node;") ∈ lw_all := lw_g (lw_at lw_m2 162 rfl) rfl
theorem q433 : (Jvm.Cond.selects "java/util/HashMap$KeyIterator" ({ cls := "java/util/HashMap$KeyIterator", name := "nextNode", desc := "()Ljava/util/HashMap$Node;" } : Jvm.MethodName) ({ cls := "java/util/HashMap$HashIterator", name := "nextNode", desc := "()Ljava/util/HashMap$Node;" } : Jvm.MethodName)) ∈ lw_all := lw_g (lw_at lw_m2 163 rfl) rfl
theorem q551 : (Jvm.Cond.selects "java/util/HashMap$KeyIterator" ({ cls := "java/lang/Object", name := "getClass", desc := "()Ljava/lang/Class;" } : Jvm.MethodName) ({ cls := "java/lang/Object", name := "getClass", desc := "()Ljava/lang/Class;" } : Jvm.MethodName)) ∈ lw_all := lw_g (lw_at lw_m3 41 rfl) rfl
theorem q668 : (Jvm.Cond.instantiable "java/util/HashMap$KeyIterator" (5 : Nat)) ∈ lw_all := lw_g (lw_at lw_m3 158 rfl) rfl
theorem q670 : (Jvm.Cond.instanceMethod ({ cls := "java/util/HashMap$KeyIterator", name := "<init>", desc := "(Ljava/util/HashMap;)V" } : Jvm.MethodName)) ∈ lw_all := lw_g (lw_at lw_m3 160 rfl) rfl
theorem q671 : (Jvm.Cond.code ({ cls := "java/util/HashMap$KeyIterator", name := "<init>", desc := "(Ljava/util/HashMap;)V" } : Jvm.MethodName) prog_43_method_1_code (2 : Nat) (Option.none : Option Jvm.ClassFile.FieldType)) ∈ lw_all := lw_g (lw_at lw_m3 161 rfl) rfl
theorem q672 : (Jvm.Cond.methodLink "java/util/HashMap$KeyIterator" (1 : Nat) ({ cls := "java/util/HashMap$HashIterator", name := "<init>", desc := "(Ljava/util/HashMap;)V" } : Jvm.MethodName)) ∈ lw_all := lw_g (lw_at lw_m3 162 rfl) rfl
theorem q673 : (Jvm.Cond.lays "java/util/HashMap$KeyIterator" "java/util/HashMap$HashIterator" "next" "Ljava/util/HashMap$Node;") ∈ lw_all := lw_g (lw_at lw_m3 163 rfl) rfl
theorem q674 : (Jvm.Cond.lays "java/util/HashMap$KeyIterator" "java/util/HashMap$HashIterator" "current" "Ljava/util/HashMap$Node;") ∈ lw_all := lw_g (lw_at lw_m3 164 rfl) rfl
theorem q675 : (Jvm.Cond.lays "java/util/HashMap$KeyIterator" "java/util/HashMap$HashIterator" "expectedModCount" "I") ∈ lw_all := lw_g (lw_at lw_m3 165 rfl) rfl
theorem q676 : (Jvm.Cond.lays "java/util/HashMap$KeyIterator" "java/util/HashMap$HashIterator" "index" "I") ∈ lw_all := lw_g (lw_at lw_m3 166 rfl) rfl
theorem q677 : (Jvm.Cond.laysFinal "java/util/HashMap$KeyIterator" "java/util/HashMap$HashIterator" "this$0" "Ljava/util/HashMap;") ∈ lw_all := lw_g (lw_at lw_m3 167 rfl) rfl
theorem q678 : (Jvm.Cond.superclass "java/util/HashMap$KeyIterator" "java/util/HashMap$HashIterator") ∈ lw_all := lw_g (lw_at lw_m3 168 rfl) rfl
theorem q957 : (Jvm.Cond.fieldLink "java/util/HashMap$KeyIterator" (13 : Nat) "java/util/HashMap$Node" "key" "Ljava/lang/Object;") ∈ lw_all := lw_g (lw_at lw_m4 207 rfl) rfl
theorem q2435 : (Jvm.Cond.castable "java/util/HashMap$KeyIterator" "java/lang/Object") ∈ lw_tbl := lw_at lw_m11 5 rfl
theorem in_J19 : ∀ w ∈ wsJ190, w ∈ lw_all := lw_in wsJ190 [673, 674, 675, 676, 677] (by decide +kernel) (by decide +kernel)
/-! java/util/HashMap$KeySet -/
set_option maxRecDepth 100000
def RJ20 : String := "java/util/HashMap$KeySet"
def TJ20 : u_T := fun k => match k with
  | _ => ("java/util/HashMap$KeySet", "this$0", "Ljava/util/HashMap;", true)
def tyJ20 : Nat → FieldType := fun k => match k with
  | _ => .object "java/util/HashMap"
abbrev wsJ200 : List Cond := u_ws RJ20 TJ20 1
theorem nmJ20 : ∀ a, a < 1 → ∀ b, b < 1 → a ≠ b → (TJ20 a).2.1 ≠ (TJ20 b).2.1 := by decide +kernel
theorem tyJ20_ok : ∀ k, k < 1 → parseFieldDescriptor (TJ20 k).2.2.1 = some (tyJ20 k) := by decide +kernel
abbrev cJ20_iterator : ByteArray := prog_44_method_4_code
def yJ20_iterator : MethodName := ⟨RJ20, "iterator", "()Ljava/util/Iterator;"⟩
abbrev cJ20_init : ByteArray := prog_44_method_1_code
def yJ20_init : MethodName := ⟨RJ20, "<init>", "(Ljava/util/HashMap;)V"⟩
theorem q58 : (Jvm.Cond.initialized "java/util/HashMap$KeySet") ∈ lw_all := lw_g (lw_at lw_m1 28 rfl) rfl
theorem q552 : (Jvm.Cond.selects "java/util/HashMap$KeySet" ({ cls := "java/lang/Object", name := "getClass", desc := "()Ljava/lang/Class;" } : Jvm.MethodName) ({ cls := "java/lang/Object", name := "getClass", desc := "()Ljava/lang/Class;" } : Jvm.MethodName)) ∈ lw_all := lw_g (lw_at lw_m3 42 rfl) rfl
theorem q661 : (Jvm.Cond.castable "java/util/HashMap$KeySet" "java/util/Set") ∈ lw_tbl := lw_at lw_m3 151 rfl
theorem q662 : (Jvm.Cond.selects "java/util/HashMap$KeySet" ({ cls := "java/util/Set", name := "iterator", desc := "()Ljava/util/Iterator;" } : Jvm.MethodName) ({ cls := "java/util/HashMap$KeySet", name := "iterator", desc := "()Ljava/util/Iterator;" } : Jvm.MethodName)) ∈ lw_all := lw_g (lw_at lw_m3 152 rfl) rfl
theorem q663 : (Jvm.Cond.unhidden "java/util/HashMap$KeySet" "iterator" "()Ljava/util/Iterator;") ∈ lw_tbl := lw_at lw_m3 153 rfl
theorem q664 : (Jvm.Cond.instanceMethod ({ cls := "java/util/HashMap$KeySet", name := "iterator", desc := "()Ljava/util/Iterator;" } : Jvm.MethodName)) ∈ lw_all := lw_g (lw_at lw_m3 154 rfl) rfl
theorem q665 : (Jvm.Cond.publicMethod ({ cls := "java/util/HashMap$KeySet", name := "iterator", desc := "()Ljava/util/Iterator;" } : Jvm.MethodName)) ∈ lw_tbl := lw_at lw_m3 155 rfl
theorem q666 : (Jvm.Cond.code ({ cls := "java/util/HashMap$KeySet", name := "iterator", desc := "()Ljava/util/Iterator;" } : Jvm.MethodName) prog_44_method_4_code (1 : Nat) (Option.some (Jvm.ClassFile.FieldType.object "java/util/Iterator"))) ∈ lw_all := lw_g (lw_at lw_m3 156 rfl) rfl
theorem q667 : (Jvm.Cond.classLink "java/util/HashMap$KeySet" (22 : Nat) "java/util/HashMap$KeyIterator") ∈ lw_all := lw_g (lw_at lw_m3 157 rfl) rfl
theorem q669 : (Jvm.Cond.methodLink "java/util/HashMap$KeySet" (24 : Nat) ({ cls := "java/util/HashMap$KeyIterator", name := "<init>", desc := "(Ljava/util/HashMap;)V" } : Jvm.MethodName)) ∈ lw_all := lw_g (lw_at lw_m3 159 rfl) rfl
theorem q711 : (Jvm.Cond.instantiable "java/util/HashMap$KeySet" (1 : Nat)) ∈ lw_all := lw_g (lw_at lw_m3 201 rfl) rfl
theorem q713 : (Jvm.Cond.instanceMethod ({ cls := "java/util/HashMap$KeySet", name := "<init>", desc := "(Ljava/util/HashMap;)V" } : Jvm.MethodName)) ∈ lw_all := lw_g (lw_at lw_m3 203 rfl) rfl
theorem q714 : (Jvm.Cond.code ({ cls := "java/util/HashMap$KeySet", name := "<init>", desc := "(Ljava/util/HashMap;)V" } : Jvm.MethodName) prog_44_method_1_code (2 : Nat) (Option.none : Option Jvm.ClassFile.FieldType)) ∈ lw_all := lw_g (lw_at lw_m3 204 rfl) rfl
theorem q715 : (Jvm.Cond.methodLink "java/util/HashMap$KeySet" (7 : Nat) ({ cls := "java/util/AbstractSet", name := "<init>", desc := "()V" } : Jvm.MethodName)) ∈ lw_all := lw_g (lw_at lw_m3 205 rfl) rfl
theorem q716 : (Jvm.Cond.fieldLink "java/util/HashMap$KeySet" (1 : Nat) "java/util/HashMap$KeySet" "this$0" "Ljava/util/HashMap;") ∈ lw_all := lw_g (lw_at lw_m3 206 rfl) rfl
theorem q717 : (Jvm.Cond.laysFinal "java/util/HashMap$KeySet" "java/util/HashMap$KeySet" "this$0" "Ljava/util/HashMap;") ∈ lw_all := lw_g (lw_at lw_m3 207 rfl) rfl
theorem q718 : (Jvm.Cond.soleField "java/util/HashMap$KeySet" "this$0") ∈ lw_all := lw_g (lw_at lw_m3 208 rfl) rfl
theorem q719 : (Jvm.Cond.superclass "java/util/HashMap$KeySet" "java/util/AbstractSet") ∈ lw_all := lw_g (lw_at lw_m3 209 rfl) rfl
theorem q2433 : (Jvm.Cond.castable "java/util/HashMap$KeySet" "java/lang/Object") ∈ lw_tbl := lw_at lw_m11 3 rfl
theorem in_J20 : ∀ w ∈ wsJ200, w ∈ lw_all := lw_in wsJ200 [717] (by decide +kernel) (by decide +kernel)
/-! java/util/LinkedHashMap$LinkedKeySet -/
set_option maxRecDepth 100000
def RJ21 : String := "java/util/LinkedHashMap$LinkedKeySet"
def TJ21 : u_T := fun k => match k with
  | 0 => ("java/util/LinkedHashMap$LinkedKeySet", "reversed", "Z", true)
  | _ => ("java/util/LinkedHashMap$LinkedKeySet", "this$0", "Ljava/util/LinkedHashMap;", true)
def tyJ21 : Nat → FieldType := fun k => match k with
  | 0 => .boolean
  | _ => .object "java/util/LinkedHashMap"
abbrev wsJ210 : List Cond := u_ws RJ21 TJ21 2
theorem nmJ21 : ∀ a, a < 2 → ∀ b, b < 2 → a ≠ b → (TJ21 a).2.1 ≠ (TJ21 b).2.1 := by decide +kernel
theorem tyJ21_ok : ∀ k, k < 2 → parseFieldDescriptor (TJ21 k).2.2.1 = some (tyJ21 k) := by decide +kernel
abbrev cJ21_init : ByteArray := prog_55_method_1_code
def yJ21_init : MethodName := ⟨RJ21, "<init>", "(Ljava/util/LinkedHashMap;Z)V"⟩
def dkwJ21_init_0 : List UInt8 := [42, 43, 181, 0, 1, 42, 183, 0, 7, 42, 28, 181, 0, 13, 177]
abbrev dktJ21_init_0 : List UInt8 := dkwJ21_init_0 ++ []
theorem dksJ21_init_0 : cJ21_init.data.toList.drop 0 = dktJ21_init_0 := by decide +kernel
theorem dJ21_init_0 : decode cJ21_init 0 = .ok (.aload_n 0, 1) := dk_42 (dk_at dksJ21_init_0 0 rfl rfl)
theorem dJ21_init_1 : decode cJ21_init 1 = .ok (.aload_n 1, 1) := dk_43 (dk_at dksJ21_init_0 1 rfl rfl)
theorem dJ21_init_2 : decode cJ21_init 2 = .ok (.putfield 1, 3) := dk_181 0 1 (dk_at dksJ21_init_0 2 rfl rfl)
theorem dJ21_init_5 : decode cJ21_init 5 = .ok (.aload_n 0, 1) := dk_42 (dk_at dksJ21_init_0 5 rfl rfl)
theorem dJ21_init_6 : decode cJ21_init 6 = .ok (.invokespecial 7, 3) := dk_183 0 7 (dk_at dksJ21_init_0 6 rfl rfl)
theorem dJ21_init_9 : decode cJ21_init 9 = .ok (.aload_n 0, 1) := dk_42 (dk_at dksJ21_init_0 9 rfl rfl)
theorem dJ21_init_10 : decode cJ21_init 10 = .ok (.iload_n 2, 1) := dk_28 (dk_at dksJ21_init_0 10 rfl rfl)
theorem dJ21_init_11 : decode cJ21_init 11 = .ok (.putfield 13, 3) := dk_181 0 13 (dk_at dksJ21_init_0 11 rfl rfl)
theorem dJ21_init_14 : decode cJ21_init 14 = .ok (.return_, 1) := dk_177 (dk_at dksJ21_init_0 14 rfl rfl)
abbrev cJ21_iterator : ByteArray := prog_55_method_4_code
def yJ21_iterator : MethodName := ⟨RJ21, "iterator", "()Ljava/util/Iterator;"⟩
def dkwJ21_iterator_0 : List UInt8 := [187, 0, 26, 89, 42, 180, 0, 1, 42, 180, 0, 13, 183, 0, 28, 176]
abbrev dktJ21_iterator_0 : List UInt8 := dkwJ21_iterator_0 ++ []
theorem dksJ21_iterator_0 : cJ21_iterator.data.toList.drop 0 = dktJ21_iterator_0 := by decide +kernel
theorem dJ21_iterator_0 : decode cJ21_iterator 0 = .ok (.new 26, 3) := dk_187 0 26 (dk_at dksJ21_iterator_0 0 rfl rfl)
theorem dJ21_iterator_3 : decode cJ21_iterator 3 = .ok (.dup, 1) := dk_89 (dk_at dksJ21_iterator_0 3 rfl rfl)
theorem dJ21_iterator_4 : decode cJ21_iterator 4 = .ok (.aload_n 0, 1) := dk_42 (dk_at dksJ21_iterator_0 4 rfl rfl)
theorem dJ21_iterator_5 : decode cJ21_iterator 5 = .ok (.getfield 1, 3) := dk_180 0 1 (dk_at dksJ21_iterator_0 5 rfl rfl)
theorem dJ21_iterator_8 : decode cJ21_iterator 8 = .ok (.aload_n 0, 1) := dk_42 (dk_at dksJ21_iterator_0 8 rfl rfl)
theorem dJ21_iterator_9 : decode cJ21_iterator 9 = .ok (.getfield 13, 3) := dk_180 0 13 (dk_at dksJ21_iterator_0 9 rfl rfl)
theorem dJ21_iterator_12 : decode cJ21_iterator 12 = .ok (.invokespecial 28, 3) := dk_183 0 28 (dk_at dksJ21_iterator_0 12 rfl rfl)
theorem dJ21_iterator_15 : decode cJ21_iterator 15 = .ok (.areturn, 1) := dk_176 (dk_at dksJ21_iterator_0 15 rfl rfl)
theorem q59 : (Jvm.Cond.initialized "java/util/LinkedHashMap$LinkedKeySet") ∈ lw_all := lw_g (lw_at lw_m1 29 rfl) rfl
theorem q561 : (Jvm.Cond.selects "java/util/LinkedHashMap$LinkedKeySet" ({ cls := "java/lang/Object", name := "getClass", desc := "()Ljava/lang/Class;" } : Jvm.MethodName) ({ cls := "java/lang/Object", name := "getClass", desc := "()Ljava/lang/Class;" } : Jvm.MethodName)) ∈ lw_all := lw_g (lw_at lw_m3 51 rfl) rfl
theorem q697 : (Jvm.Cond.instantiable "java/util/LinkedHashMap$LinkedKeySet" (2 : Nat)) ∈ lw_all := lw_g (lw_at lw_m3 187 rfl) rfl
theorem q699 : (Jvm.Cond.instanceMethod ({ cls := "java/util/LinkedHashMap$LinkedKeySet", name := "<init>", desc := "(Ljava/util/LinkedHashMap;Z)V" } : Jvm.MethodName)) ∈ lw_all := lw_g (lw_at lw_m3 189 rfl) rfl
theorem q700 : (Jvm.Cond.code ({ cls := "java/util/LinkedHashMap$LinkedKeySet", name := "<init>", desc := "(Ljava/util/LinkedHashMap;Z)V" } : Jvm.MethodName) prog_55_method_1_code (3 : Nat) (Option.none : Option Jvm.ClassFile.FieldType)) ∈ lw_all := lw_g (lw_at lw_m3 190 rfl) rfl
theorem q701 : (Jvm.Cond.methodLink "java/util/LinkedHashMap$LinkedKeySet" (7 : Nat) ({ cls := "java/util/AbstractSet", name := "<init>", desc := "()V" } : Jvm.MethodName)) ∈ lw_all := lw_g (lw_at lw_m3 191 rfl) rfl
theorem q702 : (Jvm.Cond.fieldLink "java/util/LinkedHashMap$LinkedKeySet" (13 : Nat) "java/util/LinkedHashMap$LinkedKeySet" "reversed" "Z") ∈ lw_all := lw_g (lw_at lw_m3 192 rfl) rfl
theorem q703 : (Jvm.Cond.fieldLink "java/util/LinkedHashMap$LinkedKeySet" (1 : Nat) "java/util/LinkedHashMap$LinkedKeySet" "this$0" "Ljava/util/LinkedHashMap;") ∈ lw_all := lw_g (lw_at lw_m3 193 rfl) rfl
theorem q704 : (Jvm.Cond.laysFinal "java/util/LinkedHashMap$LinkedKeySet" "java/util/LinkedHashMap$LinkedKeySet" "reversed" "Z") ∈ lw_all := lw_g (lw_at lw_m3 194 rfl) rfl
theorem q705 : (Jvm.Cond.soleField "java/util/LinkedHashMap$LinkedKeySet" "reversed") ∈ lw_all := lw_g (lw_at lw_m3 195 rfl) rfl
theorem q706 : (Jvm.Cond.laysFinal "java/util/LinkedHashMap$LinkedKeySet" "java/util/LinkedHashMap$LinkedKeySet" "this$0" "Ljava/util/LinkedHashMap;") ∈ lw_all := lw_g (lw_at lw_m3 196 rfl) rfl
theorem q707 : (Jvm.Cond.soleField "java/util/LinkedHashMap$LinkedKeySet" "this$0") ∈ lw_all := lw_g (lw_at lw_m3 197 rfl) rfl
theorem q708 : (Jvm.Cond.superclass "java/util/LinkedHashMap$LinkedKeySet" "java/util/AbstractSet") ∈ lw_all := lw_g (lw_at lw_m3 198 rfl) rfl
theorem q753 : (Jvm.Cond.castable "java/util/LinkedHashMap$LinkedKeySet" "java/util/Set") ∈ lw_tbl := lw_at lw_m4 3 rfl
theorem q754 : (Jvm.Cond.selects "java/util/LinkedHashMap$LinkedKeySet" ({ cls := "java/util/Set", name := "iterator", desc := "()Ljava/util/Iterator;" } : Jvm.MethodName) ({ cls := "java/util/LinkedHashMap$LinkedKeySet", name := "iterator", desc := "()Ljava/util/Iterator;" } : Jvm.MethodName)) ∈ lw_all := lw_g (lw_at lw_m4 4 rfl) rfl
theorem q755 : (Jvm.Cond.unhidden "java/util/LinkedHashMap$LinkedKeySet" "iterator" "()Ljava/util/Iterator;") ∈ lw_tbl := lw_at lw_m4 5 rfl
theorem q756 : (Jvm.Cond.instanceMethod ({ cls := "java/util/LinkedHashMap$LinkedKeySet", name := "iterator", desc := "()Ljava/util/Iterator;" } : Jvm.MethodName)) ∈ lw_all := lw_g (lw_at lw_m4 6 rfl) rfl
theorem q757 : (Jvm.Cond.publicMethod ({ cls := "java/util/LinkedHashMap$LinkedKeySet", name := "iterator", desc := "()Ljava/util/Iterator;" } : Jvm.MethodName)) ∈ lw_tbl := lw_at lw_m4 7 rfl
theorem q758 : (Jvm.Cond.code ({ cls := "java/util/LinkedHashMap$LinkedKeySet", name := "iterator", desc := "()Ljava/util/Iterator;" } : Jvm.MethodName) prog_55_method_4_code (1 : Nat) (Option.some (Jvm.ClassFile.FieldType.object "java/util/Iterator"))) ∈ lw_all := lw_g (lw_at lw_m4 8 rfl) rfl
theorem q759 : (Jvm.Cond.classLink "java/util/LinkedHashMap$LinkedKeySet" (26 : Nat) "java/util/LinkedHashMap$LinkedKeyIterator") ∈ lw_all := lw_g (lw_at lw_m4 9 rfl) rfl
theorem q761 : (Jvm.Cond.methodLink "java/util/LinkedHashMap$LinkedKeySet" (28 : Nat) ({ cls := "java/util/LinkedHashMap$LinkedKeyIterator", name := "<init>", desc := "(Ljava/util/LinkedHashMap;Z)V" } : Jvm.MethodName)) ∈ lw_all := lw_g (lw_at lw_m4 11 rfl) rfl
theorem q2407 : (Jvm.Cond.castable "java/util/LinkedHashMap$LinkedKeySet" "java/util/SequencedSet") ∈ lw_tbl := lw_at lw_m10 217 rfl
theorem q2434 : (Jvm.Cond.castable "java/util/LinkedHashMap$LinkedKeySet" "java/lang/Object") ∈ lw_tbl := lw_at lw_m11 4 rfl
theorem in_J21 : ∀ w ∈ wsJ210, w ∈ lw_all := lw_in wsJ210 [704, 706] (by decide +kernel) (by decide +kernel)
/-! java/util/LinkedHashMap$LinkedHashIterator -/
set_option maxRecDepth 100000
def RJ22 : String := "java/util/LinkedHashMap$LinkedHashIterator"
abbrev cJ22_hasNext : ByteArray := prog_53_method_2_code
def yJ22_hasNext : MethodName := ⟨RJ22, "hasNext", "()Z"⟩
def dkwJ22_hasNext_0 : List UInt8 := [42, 180, 0, 26, 198, 0, 7, 4, 167, 0, 4, 3, 172]
abbrev dktJ22_hasNext_0 : List UInt8 := dkwJ22_hasNext_0 ++ []
theorem dksJ22_hasNext_0 : cJ22_hasNext.data.toList.drop 0 = dktJ22_hasNext_0 := by decide +kernel
theorem dJ22_hasNext_0 : decode cJ22_hasNext 0 = .ok (.aload_n 0, 1) := dk_42 (dk_at dksJ22_hasNext_0 0 rfl rfl)
theorem dJ22_hasNext_1 : decode cJ22_hasNext 1 = .ok (.getfield 26, 3) := dk_180 0 26 (dk_at dksJ22_hasNext_0 1 rfl rfl)
theorem dJ22_hasNext_4 : decode cJ22_hasNext 4 = .ok (.ifnull 7, 3) := dk_198 0 7 (dk_at dksJ22_hasNext_0 4 rfl rfl)
theorem dJ22_hasNext_7 : decode cJ22_hasNext 7 = .ok (.iconst 1, 1) := dk_4 (dk_at dksJ22_hasNext_0 7 rfl rfl)
theorem dJ22_hasNext_8 : decode cJ22_hasNext 8 = .ok (.goto 4, 3) := dk_167 0 4 (dk_at dksJ22_hasNext_0 8 rfl rfl)
theorem dJ22_hasNext_11 : decode cJ22_hasNext 11 = .ok (.iconst 0, 1) := dk_3 (dk_at dksJ22_hasNext_0 11 rfl rfl)
theorem dJ22_hasNext_12 : decode cJ22_hasNext 12 = .ok (.ireturn, 1) := dk_172 (dk_at dksJ22_hasNext_0 12 rfl rfl)
abbrev cJ22_nextNode : ByteArray := prog_53_method_3_code
def yJ22_nextNode : MethodName := ⟨RJ22, "nextNode", "()Ljava/util/LinkedHashMap$Entry;"⟩
def dkwJ22_nextNode_2 : List UInt8 := [180, 0, 13, 153, 0, 10, 43, 180, 0, 45, 167, 0, 7, 43, 180, 0, 50, 181, 0, 26, 43, 176]
abbrev dktJ22_nextNode_2 : List UInt8 := dkwJ22_nextNode_2 ++ []
def dkwJ22_nextNode_1 : List UInt8 := [183, 0, 41, 191, 43, 199, 0, 11, 187, 0, 42, 89, 183, 0, 44, 191, 42, 43, 181, 0, 36, 42, 42]
abbrev dktJ22_nextNode_1 : List UInt8 := dkwJ22_nextNode_1 ++ dktJ22_nextNode_2
def dkwJ22_nextNode_0 : List UInt8 := [42, 180, 0, 26, 76, 42, 180, 0, 1, 180, 0, 29, 42, 180, 0, 33, 159, 0, 11, 187, 0, 39, 89]
abbrev dktJ22_nextNode_0 : List UInt8 := dkwJ22_nextNode_0 ++ dktJ22_nextNode_1
theorem dksJ22_nextNode_0 : cJ22_nextNode.data.toList.drop 0 = dktJ22_nextNode_0 := by decide +kernel
theorem dksJ22_nextNode_1 : cJ22_nextNode.data.toList.drop 23 = dktJ22_nextNode_1 := dk_seg dksJ22_nextNode_0 23 rfl rfl
theorem dksJ22_nextNode_2 : cJ22_nextNode.data.toList.drop 46 = dktJ22_nextNode_2 := dk_seg dksJ22_nextNode_1 23 rfl rfl
theorem dJ22_nextNode_0 : decode cJ22_nextNode 0 = .ok (.aload_n 0, 1) := dk_42 (dk_at dksJ22_nextNode_0 0 rfl rfl)
theorem dJ22_nextNode_1 : decode cJ22_nextNode 1 = .ok (.getfield 26, 3) := dk_180 0 26 (dk_at dksJ22_nextNode_0 1 rfl rfl)
theorem dJ22_nextNode_4 : decode cJ22_nextNode 4 = .ok (.astore_n 1, 1) := dk_76 (dk_at dksJ22_nextNode_0 4 rfl rfl)
theorem dJ22_nextNode_5 : decode cJ22_nextNode 5 = .ok (.aload_n 0, 1) := dk_42 (dk_at dksJ22_nextNode_0 5 rfl rfl)
theorem dJ22_nextNode_6 : decode cJ22_nextNode 6 = .ok (.getfield 1, 3) := dk_180 0 1 (dk_at dksJ22_nextNode_0 6 rfl rfl)
theorem dJ22_nextNode_9 : decode cJ22_nextNode 9 = .ok (.getfield 29, 3) := dk_180 0 29 (dk_at dksJ22_nextNode_0 9 rfl rfl)
theorem dJ22_nextNode_12 : decode cJ22_nextNode 12 = .ok (.aload_n 0, 1) := dk_42 (dk_at dksJ22_nextNode_0 12 rfl rfl)
theorem dJ22_nextNode_13 : decode cJ22_nextNode 13 = .ok (.getfield 33, 3) := dk_180 0 33 (dk_at dksJ22_nextNode_0 13 rfl rfl)
theorem dJ22_nextNode_16 : decode cJ22_nextNode 16 = .ok (.if_icmp .eq 11, 3) := dk_159 0 11 (dk_at dksJ22_nextNode_0 16 rfl rfl)
theorem dJ22_nextNode_19 : decode cJ22_nextNode 19 = .ok (.new 39, 3) := dk_187 0 39 (dk_at dksJ22_nextNode_0 19 rfl rfl)
theorem dJ22_nextNode_22 : decode cJ22_nextNode 22 = .ok (.dup, 1) := dk_89 (dk_at dksJ22_nextNode_0 22 rfl rfl)
theorem dJ22_nextNode_23 : decode cJ22_nextNode 23 = .ok (.invokespecial 41, 3) := dk_183 0 41 (dk_at dksJ22_nextNode_1 0 rfl rfl)
theorem dJ22_nextNode_26 : decode cJ22_nextNode 26 = .ok (.athrow, 1) := dk_191 (dk_at dksJ22_nextNode_1 3 rfl rfl)
theorem dJ22_nextNode_27 : decode cJ22_nextNode 27 = .ok (.aload_n 1, 1) := dk_43 (dk_at dksJ22_nextNode_1 4 rfl rfl)
theorem dJ22_nextNode_28 : decode cJ22_nextNode 28 = .ok (.ifnonnull 11, 3) := dk_199 0 11 (dk_at dksJ22_nextNode_1 5 rfl rfl)
theorem dJ22_nextNode_31 : decode cJ22_nextNode 31 = .ok (.new 42, 3) := dk_187 0 42 (dk_at dksJ22_nextNode_1 8 rfl rfl)
theorem dJ22_nextNode_34 : decode cJ22_nextNode 34 = .ok (.dup, 1) := dk_89 (dk_at dksJ22_nextNode_1 11 rfl rfl)
theorem dJ22_nextNode_35 : decode cJ22_nextNode 35 = .ok (.invokespecial 44, 3) := dk_183 0 44 (dk_at dksJ22_nextNode_1 12 rfl rfl)
theorem dJ22_nextNode_38 : decode cJ22_nextNode 38 = .ok (.athrow, 1) := dk_191 (dk_at dksJ22_nextNode_1 15 rfl rfl)
theorem dJ22_nextNode_39 : decode cJ22_nextNode 39 = .ok (.aload_n 0, 1) := dk_42 (dk_at dksJ22_nextNode_1 16 rfl rfl)
theorem dJ22_nextNode_40 : decode cJ22_nextNode 40 = .ok (.aload_n 1, 1) := dk_43 (dk_at dksJ22_nextNode_1 17 rfl rfl)
theorem dJ22_nextNode_41 : decode cJ22_nextNode 41 = .ok (.putfield 36, 3) := dk_181 0 36 (dk_at dksJ22_nextNode_1 18 rfl rfl)
theorem dJ22_nextNode_44 : decode cJ22_nextNode 44 = .ok (.aload_n 0, 1) := dk_42 (dk_at dksJ22_nextNode_1 21 rfl rfl)
theorem dJ22_nextNode_45 : decode cJ22_nextNode 45 = .ok (.aload_n 0, 1) := dk_42 (dk_at dksJ22_nextNode_1 22 rfl rfl)
theorem dJ22_nextNode_46 : decode cJ22_nextNode 46 = .ok (.getfield 13, 3) := dk_180 0 13 (dk_at dksJ22_nextNode_2 0 rfl rfl)
theorem dJ22_nextNode_49 : decode cJ22_nextNode 49 = .ok (.ifCond .eq 10, 3) := dk_153 0 10 (dk_at dksJ22_nextNode_2 3 rfl rfl)
theorem dJ22_nextNode_52 : decode cJ22_nextNode 52 = .ok (.aload_n 1, 1) := dk_43 (dk_at dksJ22_nextNode_2 6 rfl rfl)
theorem dJ22_nextNode_53 : decode cJ22_nextNode 53 = .ok (.getfield 45, 3) := dk_180 0 45 (dk_at dksJ22_nextNode_2 7 rfl rfl)
theorem dJ22_nextNode_56 : decode cJ22_nextNode 56 = .ok (.goto 7, 3) := dk_167 0 7 (dk_at dksJ22_nextNode_2 10 rfl rfl)
theorem dJ22_nextNode_59 : decode cJ22_nextNode 59 = .ok (.aload_n 1, 1) := dk_43 (dk_at dksJ22_nextNode_2 13 rfl rfl)
theorem dJ22_nextNode_60 : decode cJ22_nextNode 60 = .ok (.getfield 50, 3) := dk_180 0 50 (dk_at dksJ22_nextNode_2 14 rfl rfl)
theorem dJ22_nextNode_63 : decode cJ22_nextNode 63 = .ok (.putfield 26, 3) := dk_181 0 26 (dk_at dksJ22_nextNode_2 17 rfl rfl)
theorem dJ22_nextNode_66 : decode cJ22_nextNode 66 = .ok (.aload_n 1, 1) := dk_43 (dk_at dksJ22_nextNode_2 20 rfl rfl)
theorem dJ22_nextNode_67 : decode cJ22_nextNode 67 = .ok (.areturn, 1) := dk_176 (dk_at dksJ22_nextNode_2 21 rfl rfl)
abbrev cJ22_init : ByteArray := prog_53_method_1_code
def yJ22_init : MethodName := ⟨RJ22, "<init>", "(Ljava/util/LinkedHashMap;Z)V"⟩
def dkwJ22_init_1 : List UInt8 := [167, 0, 7, 43, 180, 0, 23, 181, 0, 26, 42, 43, 180, 0, 29, 181, 0, 33, 42, 1, 181, 0, 36, 177]
abbrev dktJ22_init_1 : List UInt8 := dkwJ22_init_1 ++ []
def dkwJ22_init_0 : List UInt8 := [42, 43, 181, 0, 1, 42, 183, 0, 7, 42, 28, 181, 0, 13, 42, 28, 153, 0, 10, 43, 180, 0, 17]
abbrev dktJ22_init_0 : List UInt8 := dkwJ22_init_0 ++ dktJ22_init_1
theorem dksJ22_init_0 : cJ22_init.data.toList.drop 0 = dktJ22_init_0 := by decide +kernel
theorem dksJ22_init_1 : cJ22_init.data.toList.drop 23 = dktJ22_init_1 := dk_seg dksJ22_init_0 23 rfl rfl
theorem dJ22_init_0 : decode cJ22_init 0 = .ok (.aload_n 0, 1) := dk_42 (dk_at dksJ22_init_0 0 rfl rfl)
theorem dJ22_init_1 : decode cJ22_init 1 = .ok (.aload_n 1, 1) := dk_43 (dk_at dksJ22_init_0 1 rfl rfl)
theorem dJ22_init_2 : decode cJ22_init 2 = .ok (.putfield 1, 3) := dk_181 0 1 (dk_at dksJ22_init_0 2 rfl rfl)
theorem dJ22_init_5 : decode cJ22_init 5 = .ok (.aload_n 0, 1) := dk_42 (dk_at dksJ22_init_0 5 rfl rfl)
theorem dJ22_init_6 : decode cJ22_init 6 = .ok (.invokespecial 7, 3) := dk_183 0 7 (dk_at dksJ22_init_0 6 rfl rfl)
theorem dJ22_init_9 : decode cJ22_init 9 = .ok (.aload_n 0, 1) := dk_42 (dk_at dksJ22_init_0 9 rfl rfl)
theorem dJ22_init_10 : decode cJ22_init 10 = .ok (.iload_n 2, 1) := dk_28 (dk_at dksJ22_init_0 10 rfl rfl)
theorem dJ22_init_11 : decode cJ22_init 11 = .ok (.putfield 13, 3) := dk_181 0 13 (dk_at dksJ22_init_0 11 rfl rfl)
theorem dJ22_init_14 : decode cJ22_init 14 = .ok (.aload_n 0, 1) := dk_42 (dk_at dksJ22_init_0 14 rfl rfl)
theorem dJ22_init_15 : decode cJ22_init 15 = .ok (.iload_n 2, 1) := dk_28 (dk_at dksJ22_init_0 15 rfl rfl)
theorem dJ22_init_16 : decode cJ22_init 16 = .ok (.ifCond .eq 10, 3) := dk_153 0 10 (dk_at dksJ22_init_0 16 rfl rfl)
theorem dJ22_init_19 : decode cJ22_init 19 = .ok (.aload_n 1, 1) := dk_43 (dk_at dksJ22_init_0 19 rfl rfl)
theorem dJ22_init_20 : decode cJ22_init 20 = .ok (.getfield 17, 3) := dk_180 0 17 (dk_at dksJ22_init_0 20 rfl rfl)
theorem dJ22_init_23 : decode cJ22_init 23 = .ok (.goto 7, 3) := dk_167 0 7 (dk_at dksJ22_init_1 0 rfl rfl)
theorem dJ22_init_26 : decode cJ22_init 26 = .ok (.aload_n 1, 1) := dk_43 (dk_at dksJ22_init_1 3 rfl rfl)
theorem dJ22_init_27 : decode cJ22_init 27 = .ok (.getfield 23, 3) := dk_180 0 23 (dk_at dksJ22_init_1 4 rfl rfl)
theorem dJ22_init_30 : decode cJ22_init 30 = .ok (.putfield 26, 3) := dk_181 0 26 (dk_at dksJ22_init_1 7 rfl rfl)
theorem dJ22_init_33 : decode cJ22_init 33 = .ok (.aload_n 0, 1) := dk_42 (dk_at dksJ22_init_1 10 rfl rfl)
theorem dJ22_init_34 : decode cJ22_init 34 = .ok (.aload_n 1, 1) := dk_43 (dk_at dksJ22_init_1 11 rfl rfl)
theorem dJ22_init_35 : decode cJ22_init 35 = .ok (.getfield 29, 3) := dk_180 0 29 (dk_at dksJ22_init_1 12 rfl rfl)
theorem dJ22_init_38 : decode cJ22_init 38 = .ok (.putfield 33, 3) := dk_181 0 33 (dk_at dksJ22_init_1 15 rfl rfl)
theorem dJ22_init_41 : decode cJ22_init 41 = .ok (.aload_n 0, 1) := dk_42 (dk_at dksJ22_init_1 18 rfl rfl)
theorem dJ22_init_42 : decode cJ22_init 42 = .ok (.aconst_null, 1) := dk_1 (dk_at dksJ22_init_1 19 rfl rfl)
theorem dJ22_init_43 : decode cJ22_init 43 = .ok (.putfield 36, 3) := dk_181 0 36 (dk_at dksJ22_init_1 20 rfl rfl)
theorem dJ22_init_46 : decode cJ22_init 46 = .ok (.return_, 1) := dk_177 (dk_at dksJ22_init_1 23 rfl rfl)
theorem q60 : (Jvm.Cond.initialized "java/util/LinkedHashMap$LinkedHashIterator") ∈ lw_all := lw_g (lw_at lw_m1 30 rfl) rfl
theorem q136 : (Jvm.Cond.fieldLink "java/util/LinkedHashMap$LinkedHashIterator" (23 : Nat) "java/util/LinkedHashMap" "head" "Ljava/util/LinkedHashMap$Entry;") ∈ lw_all := lw_g (lw_at lw_m1 106 rfl) rfl
theorem q137 : (Jvm.Cond.fieldLink "java/util/LinkedHashMap$LinkedHashIterator" (17 : Nat) "java/util/LinkedHashMap" "tail" "Ljava/util/LinkedHashMap$Entry;") ∈ lw_all := lw_g (lw_at lw_m1 107 rfl) rfl
theorem q149 : (Jvm.Cond.fieldLink "java/util/LinkedHashMap$LinkedHashIterator" (29 : Nat) "java/util/LinkedHashMap" "modCount" "I") ∈ lw_all := lw_g (lw_at lw_m1 119 rfl) rfl
theorem q392 : (Jvm.Cond.instanceMethod ({ cls := "java/util/LinkedHashMap$LinkedHashIterator", name := "hasNext", desc := "()Z" } : Jvm.MethodName)) ∈ lw_all := lw_g (lw_at lw_m2 122 rfl) rfl
theorem q393 : (Jvm.Cond.publicMethod ({ cls := "java/util/LinkedHashMap$LinkedHashIterator", name := "hasNext", desc := "()Z" } : Jvm.MethodName)) ∈ lw_tbl := lw_at lw_m2 123 rfl
theorem q394 : (Jvm.Cond.code ({ cls := "java/util/LinkedHashMap$LinkedHashIterator", name := "hasNext", desc := "()Z" } : Jvm.MethodName) prog_53_method_2_code (1 : Nat) (Option.some Jvm.ClassFile.FieldType.boolean)) ∈ lw_all := lw_g (lw_at lw_m2 124 rfl) rfl
theorem q445 : (Jvm.Cond.declares ({ cls := "java/util/LinkedHashMap$LinkedHashIterator", name := "nextNode", desc := "()Ljava/util/LinkedHashMap$Entry;" } : Jvm.MethodName)) ∈ lw_tbl := lw_at lw_m2 175 rfl
theorem q447 : (Jvm.Cond.instanceMethod ({ cls := "java/util/LinkedHashMap$LinkedHashIterator", name := "nextNode", desc := "()Ljava/util/LinkedHashMap$Entry;" } : Jvm.MethodName)) ∈ lw_all := lw_g (lw_at lw_m2 177 rfl) rfl
theorem q448 : (Jvm.Cond.code ({ cls := "java/util/LinkedHashMap$LinkedHashIterator", name := "nextNode", desc := "()Ljava/util/LinkedHashMap$Entry;" } : Jvm.MethodName) prog_53_method_3_code (2 : Nat) (Option.some (Jvm.ClassFile.FieldType.object "java/util/LinkedHashMap$Entry"))) ∈ lw_all := lw_g (lw_at lw_m2 178 rfl) rfl
theorem q734 : (Jvm.Cond.instanceMethod ({ cls := "java/util/LinkedHashMap$LinkedHashIterator", name := "<init>", desc := "(Ljava/util/LinkedHashMap;Z)V" } : Jvm.MethodName)) ∈ lw_all := lw_g (lw_at lw_m3 224 rfl) rfl
theorem q735 : (Jvm.Cond.code ({ cls := "java/util/LinkedHashMap$LinkedHashIterator", name := "<init>", desc := "(Ljava/util/LinkedHashMap;Z)V" } : Jvm.MethodName) prog_53_method_1_code (3 : Nat) (Option.none : Option Jvm.ClassFile.FieldType)) ∈ lw_all := lw_g (lw_at lw_m3 225 rfl) rfl
theorem q736 : (Jvm.Cond.methodLink "java/util/LinkedHashMap$LinkedHashIterator" (7 : Nat) ({ cls := "java/lang/Object", name := "<init>", desc := "()V" } : Jvm.MethodName)) ∈ lw_all := lw_g (lw_at lw_m3 226 rfl) rfl
theorem q737 : (Jvm.Cond.fieldLink "java/util/LinkedHashMap$LinkedHashIterator" (26 : Nat) "java/util/LinkedHashMap$LinkedHashIterator" "next" "Ljava/util/LinkedHashMap$Entry;") ∈ lw_all := lw_g (lw_at lw_m3 227 rfl) rfl
theorem q738 : (Jvm.Cond.fieldLink "java/util/LinkedHashMap$LinkedHashIterator" (36 : Nat) "java/util/LinkedHashMap$LinkedHashIterator" "current" "Ljava/util/LinkedHashMap$Entry;") ∈ lw_all := lw_g (lw_at lw_m3 228 rfl) rfl
theorem q739 : (Jvm.Cond.fieldLink "java/util/LinkedHashMap$LinkedHashIterator" (33 : Nat) "java/util/LinkedHashMap$LinkedHashIterator" "expectedModCount" "I") ∈ lw_all := lw_g (lw_at lw_m3 229 rfl) rfl
theorem q740 : (Jvm.Cond.fieldLink "java/util/LinkedHashMap$LinkedHashIterator" (13 : Nat) "java/util/LinkedHashMap$LinkedHashIterator" "reversed" "Z") ∈ lw_all := lw_g (lw_at lw_m3 230 rfl) rfl
theorem q741 : (Jvm.Cond.fieldLink "java/util/LinkedHashMap$LinkedHashIterator" (1 : Nat) "java/util/LinkedHashMap$LinkedHashIterator" "this$0" "Ljava/util/LinkedHashMap;") ∈ lw_all := lw_g (lw_at lw_m3 231 rfl) rfl
theorem q743 : (Jvm.Cond.soleField "java/util/LinkedHashMap$LinkedHashIterator" "next") ∈ lw_all := lw_g (lw_at lw_m3 233 rfl) rfl
theorem q745 : (Jvm.Cond.soleField "java/util/LinkedHashMap$LinkedHashIterator" "current") ∈ lw_all := lw_g (lw_at lw_m3 235 rfl) rfl
theorem q747 : (Jvm.Cond.soleField "java/util/LinkedHashMap$LinkedHashIterator" "expectedModCount") ∈ lw_all := lw_g (lw_at lw_m3 237 rfl) rfl
theorem q749 : (Jvm.Cond.soleField "java/util/LinkedHashMap$LinkedHashIterator" "reversed") ∈ lw_all := lw_g (lw_at lw_m3 239 rfl) rfl
theorem q751 : (Jvm.Cond.soleField "java/util/LinkedHashMap$LinkedHashIterator" "this$0") ∈ lw_all := lw_g (lw_at lw_m4 1 rfl) rfl
theorem q947 : (Jvm.Cond.fieldLink "java/util/LinkedHashMap$LinkedHashIterator" (45 : Nat) "java/util/LinkedHashMap$Entry" "before" "Ljava/util/LinkedHashMap$Entry;") ∈ lw_all := lw_g (lw_at lw_m4 197 rfl) rfl
theorem q949 : (Jvm.Cond.fieldLink "java/util/LinkedHashMap$LinkedHashIterator" (50 : Nat) "java/util/LinkedHashMap$Entry" "after" "Ljava/util/LinkedHashMap$Entry;") ∈ lw_all := lw_g (lw_at lw_m4 199 rfl) rfl
/-! java/util/LinkedHashMap$LinkedEntryIterator -/
set_option maxRecDepth 100000
def RJ23 : String := "java/util/LinkedHashMap$LinkedEntryIterator"
def TJ23 : u_T := fun k => match k with
  | 0 => ("java/util/LinkedHashMap$LinkedHashIterator", "next", "Ljava/util/LinkedHashMap$Entry;", false)
  | 1 => ("java/util/LinkedHashMap$LinkedHashIterator", "current", "Ljava/util/LinkedHashMap$Entry;", false)
  | 2 => ("java/util/LinkedHashMap$LinkedHashIterator", "expectedModCount", "I", false)
  | 3 => ("java/util/LinkedHashMap$LinkedHashIterator", "reversed", "Z", false)
  | _ => ("java/util/LinkedHashMap$LinkedHashIterator", "this$0", "Ljava/util/LinkedHashMap;", true)
def tyJ23 : Nat → FieldType := fun k => match k with
  | 0 => .object "java/util/LinkedHashMap$Entry"
  | 1 => .object "java/util/LinkedHashMap$Entry"
  | 2 => .int
  | 3 => .boolean
  | _ => .object "java/util/LinkedHashMap"
abbrev wsJ230 : List Cond := u_ws RJ23 TJ23 5
theorem nmJ23 : ∀ a, a < 5 → ∀ b, b < 5 → a ≠ b → (TJ23 a).2.1 ≠ (TJ23 b).2.1 := by decide +kernel
theorem tyJ23_ok : ∀ k, k < 5 → parseFieldDescriptor (TJ23 k).2.2.1 = some (tyJ23 k) := by decide +kernel
abbrev cJ23_next : ByteArray := prog_51_method_3_code
def yJ23_next : MethodName := ⟨RJ23, "next", "()Ljava/lang/Object;"⟩
theorem dJ23_next_0 : decode cJ23_next 0 = .ok (.aload_n 0, 1) := by decide +kernel
theorem dJ23_next_1 : decode cJ23_next 1 = .ok (.invokevirtual 13, 3) := by decide +kernel
theorem dJ23_next_4 : decode cJ23_next 4 = .ok (.areturn, 1) := by decide +kernel
abbrev cJ23_next_2 : ByteArray := prog_51_method_2_code
def yJ23_next_2 : MethodName := ⟨RJ23, "next", "()Ljava/util/Map$Entry;"⟩
theorem dJ23_next_2_0 : decode cJ23_next_2 0 = .ok (.aload_n 0, 1) := by decide +kernel
theorem dJ23_next_2_1 : decode cJ23_next_2 1 = .ok (.invokevirtual 7, 3) := by decide +kernel
theorem dJ23_next_2_4 : decode cJ23_next_2 4 = .ok (.areturn, 1) := by decide +kernel
abbrev cJ23_init : ByteArray := prog_51_method_1_code
def yJ23_init : MethodName := ⟨RJ23, "<init>", "(Ljava/util/LinkedHashMap;Z)V"⟩
def dkwJ23_init_0 : List UInt8 := [42, 43, 28, 183, 0, 1, 177]
abbrev dktJ23_init_0 : List UInt8 := dkwJ23_init_0 ++ []
theorem dksJ23_init_0 : cJ23_init.data.toList.drop 0 = dktJ23_init_0 := by decide +kernel
theorem dJ23_init_0 : decode cJ23_init 0 = .ok (.aload_n 0, 1) := dk_42 (dk_at dksJ23_init_0 0 rfl rfl)
theorem dJ23_init_1 : decode cJ23_init 1 = .ok (.aload_n 1, 1) := dk_43 (dk_at dksJ23_init_0 1 rfl rfl)
theorem dJ23_init_2 : decode cJ23_init 2 = .ok (.iload_n 2, 1) := dk_28 (dk_at dksJ23_init_0 2 rfl rfl)
theorem dJ23_init_3 : decode cJ23_init 3 = .ok (.invokespecial 1, 3) := dk_183 0 1 (dk_at dksJ23_init_0 3 rfl rfl)
theorem dJ23_init_6 : decode cJ23_init 6 = .ok (.return_, 1) := dk_177 (dk_at dksJ23_init_0 6 rfl rfl)
theorem q61 : (Jvm.Cond.initialized "java/util/LinkedHashMap$LinkedEntryIterator") ∈ lw_all := lw_g (lw_at lw_m1 31 rfl) rfl
theorem q389 : (Jvm.Cond.castable "java/util/LinkedHashMap$LinkedEntryIterator" "java/util/Iterator") ∈ lw_tbl := lw_at lw_m2 119 rfl
theorem q390 : (Jvm.Cond.selects "java/util/LinkedHashMap$LinkedEntryIterator" ({ cls := "java/util/Iterator", name := "hasNext", desc := "()Z" } : Jvm.MethodName) ({ cls := "java/util/LinkedHashMap$LinkedHashIterator", name := "hasNext", desc := "()Z" } : Jvm.MethodName)) ∈ lw_all := lw_g (lw_at lw_m2 120 rfl) rfl
theorem q391 : (Jvm.Cond.unhidden "java/util/LinkedHashMap$LinkedEntryIterator" "hasNext" "()Z") ∈ lw_tbl := lw_at lw_m2 121 rfl
theorem q434 : (Jvm.Cond.selects "java/util/LinkedHashMap$LinkedEntryIterator" ({ cls := "java/util/Iterator", name := "next", desc := "()Ljava/lang/Object;" } : Jvm.MethodName) ({ cls := "java/util/LinkedHashMap$LinkedEntryIterator", name := "next", desc := "()Ljava/lang/Object;" } : Jvm.MethodName)) ∈ lw_all := lw_g (lw_at lw_m2 164 rfl) rfl
theorem q435 : (Jvm.Cond.unhidden "java/util/LinkedHashMap$LinkedEntryIterator" "next" "()Ljava/lang/Object;") ∈ lw_tbl := lw_at lw_m2 165 rfl
theorem q436 : (Jvm.Cond.instanceMethod ({ cls := "java/util/LinkedHashMap$LinkedEntryIterator", name := "next", desc := "()Ljava/lang/Object;" } : Jvm.MethodName)) ∈ lw_all := lw_g (lw_at lw_m2 166 rfl) rfl
theorem q437 : (Jvm.Cond.publicMethod ({ cls := "java/util/LinkedHashMap$LinkedEntryIterator", name := "next", desc := "()Ljava/lang/Object;" } : Jvm.MethodName)) ∈ lw_tbl := lw_at lw_m2 167 rfl
theorem q438 : (Jvm.Cond.code ({ cls := "java/util/LinkedHashMap$LinkedEntryIterator", name := "next", desc := "()Ljava/lang/Object;" } : Jvm.MethodName) prog_51_method_3_code (1 : Nat) (Option.some (Jvm.ClassFile.FieldType.object "java/lang/Object"))) ∈ lw_all := lw_g (lw_at lw_m2 168 rfl) rfl
theorem q439 : (Jvm.Cond.methodLink "java/util/LinkedHashMap$LinkedEntryIterator" (13 : Nat) ({ cls := "java/util/LinkedHashMap$LinkedEntryIterator", name := "next", desc := "()Ljava/util/Map$Entry;" } : Jvm.MethodName)) ∈ lw_all := lw_g (lw_at lw_m2 169 rfl) rfl
theorem q440 : (Jvm.Cond.instanceMethod ({ cls := "java/util/LinkedHashMap$LinkedEntryIterator", name := "next", desc := "()Ljava/util/Map$Entry;" } : Jvm.MethodName)) ∈ lw_all := lw_g (lw_at lw_m2 170 rfl) rfl
theorem q441 : (Jvm.Cond.selects "java/util/LinkedHashMap$LinkedEntryIterator" ({ cls := "java/util/LinkedHashMap$LinkedEntryIterator", name := "next", desc := "()Ljava/util/Map$Entry;" } : Jvm.MethodName) ({ cls := "java/util/LinkedHashMap$LinkedEntryIterator", name := "next", desc := "()Ljava/util/Map$Entry;" } : Jvm.MethodName)) ∈ lw_all := lw_g (lw_at lw_m2 171 rfl) rfl
theorem q442 : (Jvm.Cond.code ({ cls := "java/util/LinkedHashMap$LinkedEntryIterator", name := "next", desc := "()Ljava/util/Map$Entry;" } : Jvm.MethodName) prog_51_method_2_code (1 : Nat) (Option.some (Jvm.ClassFile.FieldType.object "java/util/Map$Entry"))) ∈ lw_all := lw_g (lw_at lw_m2 172 rfl) rfl
theorem q443 : (Jvm.Cond.methodLink "java/util/LinkedHashMap$LinkedEntryIterator" (7 : Nat) ({ cls := "java/util/LinkedHashMap$LinkedEntryIterator", name := "nextNode", desc := "()Ljava/util/LinkedHashMap$Entry;" } : Jvm.MethodName)) ∈ lw_all := lw_g (lw_at lw_m2 173 rfl) rfl
theorem q444 : (Jvm.Cond.sameMethod "java/util/LinkedHashMap$LinkedEntryIterator" "java/util/LinkedHashMap$LinkedHashIterator" "nextNode" "()Ljava/util/LinkedHashMap$Entry;") ∈ lw_all := lw_g (lw_at lw_m2 174 rfl) rfl
theorem q446 : (Jvm.Cond.selects "java/util/LinkedHashMap$LinkedEntryIterator" ({ cls := "java/util/LinkedHashMap$LinkedEntryIterator", name := "nextNode", desc := "()Ljava/util/LinkedHashMap$Entry;" } : Jvm.MethodName) ({ cls := "java/util/LinkedHashMap$LinkedHashIterator", name := "nextNode", desc := "()Ljava/util/LinkedHashMap$Entry;" } : Jvm.MethodName)) ∈ lw_all := lw_g (lw_at lw_m2 176 rfl) rfl
theorem q558 : (Jvm.Cond.selects "java/util/LinkedHashMap$LinkedEntryIterator" ({ cls := "java/lang/Object", name := "getClass", desc := "()Ljava/lang/Class;" } : Jvm.MethodName) ({ cls := "java/lang/Object", name := "getClass", desc := "()Ljava/lang/Class;" } : Jvm.MethodName)) ∈ lw_all := lw_g (lw_at lw_m3 48 rfl) rfl
theorem q729 : (Jvm.Cond.instantiable "java/util/LinkedHashMap$LinkedEntryIterator" (5 : Nat)) ∈ lw_all := lw_g (lw_at lw_m3 219 rfl) rfl
theorem q731 : (Jvm.Cond.instanceMethod ({ cls := "java/util/LinkedHashMap$LinkedEntryIterator", name := "<init>", desc := "(Ljava/util/LinkedHashMap;Z)V" } : Jvm.MethodName)) ∈ lw_all := lw_g (lw_at lw_m3 221 rfl) rfl
theorem q732 : (Jvm.Cond.code ({ cls := "java/util/LinkedHashMap$LinkedEntryIterator", name := "<init>", desc := "(Ljava/util/LinkedHashMap;Z)V" } : Jvm.MethodName) prog_51_method_1_code (3 : Nat) (Option.none : Option Jvm.ClassFile.FieldType)) ∈ lw_all := lw_g (lw_at lw_m3 222 rfl) rfl
theorem q733 : (Jvm.Cond.methodLink "java/util/LinkedHashMap$LinkedEntryIterator" (1 : Nat) ({ cls := "java/util/LinkedHashMap$LinkedHashIterator", name := "<init>", desc := "(Ljava/util/LinkedHashMap;Z)V" } : Jvm.MethodName)) ∈ lw_all := lw_g (lw_at lw_m3 223 rfl) rfl
theorem q742 : (Jvm.Cond.lays "java/util/LinkedHashMap$LinkedEntryIterator" "java/util/LinkedHashMap$LinkedHashIterator" "next" "Ljava/util/LinkedHashMap$Entry;") ∈ lw_all := lw_g (lw_at lw_m3 232 rfl) rfl
theorem q744 : (Jvm.Cond.lays "java/util/LinkedHashMap$LinkedEntryIterator" "java/util/LinkedHashMap$LinkedHashIterator" "current" "Ljava/util/LinkedHashMap$Entry;") ∈ lw_all := lw_g (lw_at lw_m3 234 rfl) rfl
theorem q746 : (Jvm.Cond.lays "java/util/LinkedHashMap$LinkedEntryIterator" "java/util/LinkedHashMap$LinkedHashIterator" "expectedModCount" "I") ∈ lw_all := lw_g (lw_at lw_m3 236 rfl) rfl
theorem q748 : (Jvm.Cond.lays "java/util/LinkedHashMap$LinkedEntryIterator" "java/util/LinkedHashMap$LinkedHashIterator" "reversed" "Z") ∈ lw_all := lw_g (lw_at lw_m3 238 rfl) rfl
theorem q750 : (Jvm.Cond.laysFinal "java/util/LinkedHashMap$LinkedEntryIterator" "java/util/LinkedHashMap$LinkedHashIterator" "this$0" "Ljava/util/LinkedHashMap;") ∈ lw_all := lw_g (lw_at lw_m4 0 rfl) rfl
theorem q752 : (Jvm.Cond.superclass "java/util/LinkedHashMap$LinkedEntryIterator" "java/util/LinkedHashMap$LinkedHashIterator") ∈ lw_all := lw_g (lw_at lw_m4 2 rfl) rfl
theorem q2422 : (Jvm.Cond.castable "java/util/LinkedHashMap$LinkedEntryIterator" "java/lang/Object") ∈ lw_tbl := lw_at lw_m10 232 rfl
theorem in_J23 : ∀ w ∈ wsJ230, w ∈ lw_all := lw_in wsJ230 [742, 744, 746, 748, 750] (by decide +kernel) (by decide +kernel)
/-! java/util/LinkedHashMap$LinkedKeyIterator -/
set_option maxRecDepth 100000
def RJ24 : String := "java/util/LinkedHashMap$LinkedKeyIterator"
def TJ24 : u_T := fun k => match k with
  | 0 => ("java/util/LinkedHashMap$LinkedHashIterator", "next", "Ljava/util/LinkedHashMap$Entry;", false)
  | 1 => ("java/util/LinkedHashMap$LinkedHashIterator", "current", "Ljava/util/LinkedHashMap$Entry;", false)
  | 2 => ("java/util/LinkedHashMap$LinkedHashIterator", "expectedModCount", "I", false)
  | 3 => ("java/util/LinkedHashMap$LinkedHashIterator", "reversed", "Z", false)
  | _ => ("java/util/LinkedHashMap$LinkedHashIterator", "this$0", "Ljava/util/LinkedHashMap;", true)
def tyJ24 : Nat → FieldType := fun k => match k with
  | 0 => .object "java/util/LinkedHashMap$Entry"
  | 1 => .object "java/util/LinkedHashMap$Entry"
  | 2 => .int
  | 3 => .boolean
  | _ => .object "java/util/LinkedHashMap"
abbrev wsJ240 : List Cond := u_ws RJ24 TJ24 5
theorem nmJ24 : ∀ a, a < 5 → ∀ b, b < 5 → a ≠ b → (TJ24 a).2.1 ≠ (TJ24 b).2.1 := by decide +kernel
theorem tyJ24_ok : ∀ k, k < 5 → parseFieldDescriptor (TJ24 k).2.2.1 = some (tyJ24 k) := by decide +kernel
abbrev cJ24_next : ByteArray := prog_54_method_2_code
def yJ24_next : MethodName := ⟨RJ24, "next", "()Ljava/lang/Object;"⟩
def dkwJ24_next_0 : List UInt8 := [42, 182, 0, 7, 182, 0, 13, 176]
abbrev dktJ24_next_0 : List UInt8 := dkwJ24_next_0 ++ []
theorem dksJ24_next_0 : cJ24_next.data.toList.drop 0 = dktJ24_next_0 := by decide +kernel
theorem dJ24_next_0 : decode cJ24_next 0 = .ok (.aload_n 0, 1) := dk_42 (dk_at dksJ24_next_0 0 rfl rfl)
theorem dJ24_next_1 : decode cJ24_next 1 = .ok (.invokevirtual 7, 3) := dk_182 0 7 (dk_at dksJ24_next_0 1 rfl rfl)
theorem dJ24_next_4 : decode cJ24_next 4 = .ok (.invokevirtual 13, 3) := dk_182 0 13 (dk_at dksJ24_next_0 4 rfl rfl)
theorem dJ24_next_7 : decode cJ24_next 7 = .ok (.areturn, 1) := dk_176 (dk_at dksJ24_next_0 7 rfl rfl)
abbrev cJ24_init : ByteArray := prog_54_method_1_code
def yJ24_init : MethodName := ⟨RJ24, "<init>", "(Ljava/util/LinkedHashMap;Z)V"⟩
def dkwJ24_init_0 : List UInt8 := [42, 43, 28, 183, 0, 1, 177]
abbrev dktJ24_init_0 : List UInt8 := dkwJ24_init_0 ++ []
theorem dksJ24_init_0 : cJ24_init.data.toList.drop 0 = dktJ24_init_0 := by decide +kernel
theorem dJ24_init_0 : decode cJ24_init 0 = .ok (.aload_n 0, 1) := dk_42 (dk_at dksJ24_init_0 0 rfl rfl)
theorem dJ24_init_1 : decode cJ24_init 1 = .ok (.aload_n 1, 1) := dk_43 (dk_at dksJ24_init_0 1 rfl rfl)
theorem dJ24_init_2 : decode cJ24_init 2 = .ok (.iload_n 2, 1) := dk_28 (dk_at dksJ24_init_0 2 rfl rfl)
theorem dJ24_init_3 : decode cJ24_init 3 = .ok (.invokespecial 1, 3) := dk_183 0 1 (dk_at dksJ24_init_0 3 rfl rfl)
theorem dJ24_init_6 : decode cJ24_init 6 = .ok (.return_, 1) := dk_177 (dk_at dksJ24_init_0 6 rfl rfl)
theorem q62 : (Jvm.Cond.initialized "java/util/LinkedHashMap$LinkedKeyIterator") ∈ lw_all := lw_g (lw_at lw_m1 32 rfl) rfl
theorem q395 : (Jvm.Cond.castable "java/util/LinkedHashMap$LinkedKeyIterator" "java/util/Iterator") ∈ lw_tbl := lw_at lw_m2 125 rfl
theorem q396 : (Jvm.Cond.selects "java/util/LinkedHashMap$LinkedKeyIterator" ({ cls := "java/util/Iterator", name := "hasNext", desc := "()Z" } : Jvm.MethodName) ({ cls := "java/util/LinkedHashMap$LinkedHashIterator", name := "hasNext", desc := "()Z" } : Jvm.MethodName)) ∈ lw_all := lw_g (lw_at lw_m2 126 rfl) rfl
theorem q397 : (Jvm.Cond.unhidden "java/util/LinkedHashMap$LinkedKeyIterator" "hasNext" "()Z") ∈ lw_tbl := lw_at lw_m2 127 rfl
theorem q449 : (Jvm.Cond.selects "java/util/LinkedHashMap$LinkedKeyIterator" ({ cls := "java/util/Iterator", name := "next", desc := "()Ljava/lang/Object;" } : Jvm.MethodName) ({ cls := "java/util/LinkedHashMap$LinkedKeyIterator", name := "next", desc := "()Ljava/lang/Object;" } : Jvm.MethodName)) ∈ lw_all := lw_g (lw_at lw_m2 179 rfl) rfl
theorem q450 : (Jvm.Cond.unhidden "java/util/LinkedHashMap$LinkedKeyIterator" "next" "()Ljava/lang/Object;") ∈ lw_tbl := lw_at lw_m2 180 rfl
theorem q451 : (Jvm.Cond.instanceMethod ({ cls := "java/util/LinkedHashMap$LinkedKeyIterator", name := "next", desc := "()Ljava/lang/Object;" } : Jvm.MethodName)) ∈ lw_all := lw_g (lw_at lw_m2 181 rfl) rfl
theorem q452 : (Jvm.Cond.publicMethod ({ cls := "java/util/LinkedHashMap$LinkedKeyIterator", name := "next", desc := "()Ljava/lang/Object;" } : Jvm.MethodName)) ∈ lw_tbl := lw_at lw_m2 182 rfl
theorem q453 : (Jvm.Cond.code ({ cls := "java/util/LinkedHashMap$LinkedKeyIterator", name := "next", desc := "()Ljava/lang/Object;" } : Jvm.MethodName) prog_54_method_2_code (1 : Nat) (Option.some (Jvm.ClassFile.FieldType.object "java/lang/Object"))) ∈ lw_all := lw_g (lw_at lw_m2 183 rfl) rfl
theorem q454 : (Jvm.Cond.methodLink "java/util/LinkedHashMap$LinkedKeyIterator" (7 : Nat) ({ cls := "java/util/LinkedHashMap$LinkedKeyIterator", name := "nextNode", desc := "()Ljava/util/LinkedHashMap$Entry;" } : Jvm.MethodName)) ∈ lw_all := lw_g (lw_at lw_m2 184 rfl) rfl
theorem q455 : (Jvm.Cond.sameMethod "java/util/LinkedHashMap$LinkedKeyIterator" "java/util/LinkedHashMap$LinkedHashIterator" "nextNode" "()Ljava/util/LinkedHashMap$Entry;") ∈ lw_all := lw_g (lw_at lw_m2 185 rfl) rfl
theorem q456 : (Jvm.Cond.selects "java/util/LinkedHashMap$LinkedKeyIterator" ({ cls := "java/util/LinkedHashMap$LinkedKeyIterator", name := "nextNode", desc := "()Ljava/util/LinkedHashMap$Entry;" } : Jvm.MethodName) ({ cls := "java/util/LinkedHashMap$LinkedHashIterator", name := "nextNode", desc := "()Ljava/util/LinkedHashMap$Entry;" } : Jvm.MethodName)) ∈ lw_all := lw_g (lw_at lw_m2 186 rfl) rfl
theorem q457 : (Jvm.Cond.methodLink "java/util/LinkedHashMap$LinkedKeyIterator" (13 : Nat) ({ cls := "java/util/LinkedHashMap$Entry", name := "getKey", desc := "()Ljava/lang/Object;" } : Jvm.MethodName)) ∈ lw_all := lw_g (lw_at lw_m2 187 rfl) rfl
theorem q560 : (Jvm.Cond.selects "java/util/LinkedHashMap$LinkedKeyIterator" ({ cls := "java/lang/Object", name := "getClass", desc := "()Ljava/lang/Class;" } : Jvm.MethodName) ({ cls := "java/lang/Object", name := "getClass", desc := "()Ljava/lang/Class;" } : Jvm.MethodName)) ∈ lw_all := lw_g (lw_at lw_m3 50 rfl) rfl
theorem q760 : (Jvm.Cond.instantiable "java/util/LinkedHashMap$LinkedKeyIterator" (5 : Nat)) ∈ lw_all := lw_g (lw_at lw_m4 10 rfl) rfl
theorem q762 : (Jvm.Cond.instanceMethod ({ cls := "java/util/LinkedHashMap$LinkedKeyIterator", name := "<init>", desc := "(Ljava/util/LinkedHashMap;Z)V" } : Jvm.MethodName)) ∈ lw_all := lw_g (lw_at lw_m4 12 rfl) rfl
theorem q763 : (Jvm.Cond.code ({ cls := "java/util/LinkedHashMap$LinkedKeyIterator", name := "<init>", desc := "(Ljava/util/LinkedHashMap;Z)V" } : Jvm.MethodName) prog_54_method_1_code (3 : Nat) (Option.none : Option Jvm.ClassFile.FieldType)) ∈ lw_all := lw_g (lw_at lw_m4 13 rfl) rfl
theorem q764 : (Jvm.Cond.methodLink "java/util/LinkedHashMap$LinkedKeyIterator" (1 : Nat) ({ cls := "java/util/LinkedHashMap$LinkedHashIterator", name := "<init>", desc := "(Ljava/util/LinkedHashMap;Z)V" } : Jvm.MethodName)) ∈ lw_all := lw_g (lw_at lw_m4 14 rfl) rfl
theorem q765 : (Jvm.Cond.lays "java/util/LinkedHashMap$LinkedKeyIterator" "java/util/LinkedHashMap$LinkedHashIterator" "next" "Ljava/util/LinkedHashMap$Entry;") ∈ lw_all := lw_g (lw_at lw_m4 15 rfl) rfl
theorem q766 : (Jvm.Cond.lays "java/util/LinkedHashMap$LinkedKeyIterator" "java/util/LinkedHashMap$LinkedHashIterator" "current" "Ljava/util/LinkedHashMap$Entry;") ∈ lw_all := lw_g (lw_at lw_m4 16 rfl) rfl
theorem q767 : (Jvm.Cond.lays "java/util/LinkedHashMap$LinkedKeyIterator" "java/util/LinkedHashMap$LinkedHashIterator" "expectedModCount" "I") ∈ lw_all := lw_g (lw_at lw_m4 17 rfl) rfl
theorem q768 : (Jvm.Cond.lays "java/util/LinkedHashMap$LinkedKeyIterator" "java/util/LinkedHashMap$LinkedHashIterator" "reversed" "Z") ∈ lw_all := lw_g (lw_at lw_m4 18 rfl) rfl
theorem q769 : (Jvm.Cond.laysFinal "java/util/LinkedHashMap$LinkedKeyIterator" "java/util/LinkedHashMap$LinkedHashIterator" "this$0" "Ljava/util/LinkedHashMap;") ∈ lw_all := lw_g (lw_at lw_m4 19 rfl) rfl
theorem q770 : (Jvm.Cond.superclass "java/util/LinkedHashMap$LinkedKeyIterator" "java/util/LinkedHashMap$LinkedHashIterator") ∈ lw_all := lw_g (lw_at lw_m4 20 rfl) rfl
theorem q2436 : (Jvm.Cond.castable "java/util/LinkedHashMap$LinkedKeyIterator" "java/lang/Object") ∈ lw_tbl := lw_at lw_m11 6 rfl
theorem in_J24 : ∀ w ∈ wsJ240, w ∈ lw_all := lw_in wsJ240 [765, 766, 767, 768, 769] (by decide +kernel) (by decide +kernel)
/-! java/lang/Number -/
set_option maxRecDepth 100000
def RJ25 : String := "java/lang/Number"
abbrev cJ25_init : ByteArray := prog_22_method_1_code
def yJ25_init : MethodName := ⟨RJ25, "<init>", "()V"⟩
theorem dJ25_init_0 : decode cJ25_init 0 = .ok (.aload_n 0, 1) := by decide +kernel
theorem dJ25_init_1 : decode cJ25_init 1 = .ok (.invokespecial 1, 3) := by decide +kernel
theorem dJ25_init_4 : decode cJ25_init 4 = .ok (.return_, 1) := by decide +kernel
theorem q63 : (Jvm.Cond.initialized "java/lang/Number") ∈ lw_all := lw_g (lw_at lw_m1 33 rfl) rfl
theorem q1966 : (Jvm.Cond.instanceMethod ({ cls := "java/lang/Number", name := "<init>", desc := "()V" } : Jvm.MethodName)) ∈ lw_all := lw_g (lw_at lw_m9 16 rfl) rfl
theorem q1967 : (Jvm.Cond.code ({ cls := "java/lang/Number", name := "<init>", desc := "()V" } : Jvm.MethodName) prog_22_method_1_code (1 : Nat) (Option.none : Option Jvm.ClassFile.FieldType)) ∈ lw_all := lw_g (lw_at lw_m9 17 rfl) rfl
theorem q1968 : (Jvm.Cond.methodLink "java/lang/Number" (1 : Nat) ({ cls := "java/lang/Object", name := "<init>", desc := "()V" } : Jvm.MethodName)) ∈ lw_all := lw_g (lw_at lw_m9 18 rfl) rfl
/-! java/lang/Integer -/
set_option maxRecDepth 100000
def RJ26 : String := "java/lang/Integer"
def TJ26 : u_T := fun k => match k with
  | _ => ("java/lang/Integer", "value", "I", true)
def tyJ26 : Nat → FieldType := fun k => match k with
  | _ => .int
abbrev wsJ260 : List Cond := u_ws RJ26 TJ26 1
theorem nmJ26 : ∀ a, a < 1 → ∀ b, b < 1 → a ≠ b → (TJ26 a).2.1 ≠ (TJ26 b).2.1 := by decide +kernel
theorem tyJ26_ok : ∀ k, k < 1 → parseFieldDescriptor (TJ26 k).2.2.1 = some (tyJ26 k) := by decide +kernel
abbrev cJ26_hashCode : ByteArray := prog_17_method_32_code
def yJ26_hashCode : MethodName := ⟨RJ26, "hashCode", "()I"⟩
abbrev cJ26_hashCode_2 : ByteArray := prog_17_method_33_code
def yJ26_hashCode_2 : MethodName := ⟨RJ26, "hashCode", "(I)I"⟩
abbrev cJ26_compareTo : ByteArray := prog_17_method_63_code
def yJ26_compareTo : MethodName := ⟨RJ26, "compareTo", "(Ljava/lang/Object;)I"⟩
abbrev cJ26_compareTo_2 : ByteArray := prog_17_method_39_code
def yJ26_compareTo_2 : MethodName := ⟨RJ26, "compareTo", "(Ljava/lang/Integer;)I"⟩
abbrev cJ26_compare : ByteArray := prog_17_method_40_code
def yJ26_compare : MethodName := ⟨RJ26, "compare", "(II)I"⟩
abbrev cJ26_numberOfLeadingZeros : ByteArray := prog_17_method_47_code
def yJ26_numberOfLeadingZeros : MethodName := ⟨RJ26, "numberOfLeadingZeros", "(I)I"⟩
abbrev cJ26_numberOfTrailingZeros : ByteArray := prog_17_method_48_code
def yJ26_numberOfTrailingZeros : MethodName := ⟨RJ26, "numberOfTrailingZeros", "(I)I"⟩
abbrev cJ26_equals : ByteArray := prog_17_method_34_code
def yJ26_equals : MethodName := ⟨RJ26, "equals", "(Ljava/lang/Object;)Z"⟩
abbrev cJ26_intValue : ByteArray := prog_17_method_27_code
def yJ26_intValue : MethodName := ⟨RJ26, "intValue", "()I"⟩
theorem dJ26_intValue_0 : decode cJ26_intValue 0 = .ok (.aload_n 0, 1) := by decide +kernel
theorem dJ26_intValue_1 : decode cJ26_intValue 1 = .ok (.getfield 205, 3) := by decide +kernel
theorem dJ26_intValue_4 : decode cJ26_intValue 4 = .ok (.ireturn, 1) := by decide +kernel
abbrev cJ26_valueOf : ByteArray := prog_17_method_22_code
def yJ26_valueOf : MethodName := ⟨RJ26, "valueOf", "(I)Ljava/lang/Integer;"⟩
def dkwJ26_valueOf_1 : List UInt8 := [187, 0, 1, 89, 26, 183, 0, 199, 176]
abbrev dktJ26_valueOf_1 : List UInt8 := dkwJ26_valueOf_1 ++ []
def dkwJ26_valueOf_0 : List UInt8 := [26, 16, 128, 161, 0, 20, 26, 178, 0, 191, 163, 0, 13, 178, 0, 195, 26, 17, 0, 128, 96, 50, 176]
abbrev dktJ26_valueOf_0 : List UInt8 := dkwJ26_valueOf_0 ++ dktJ26_valueOf_1
theorem dksJ26_valueOf_0 : cJ26_valueOf.data.toList.drop 0 = dktJ26_valueOf_0 := by decide +kernel
theorem dksJ26_valueOf_1 : cJ26_valueOf.data.toList.drop 23 = dktJ26_valueOf_1 := dk_seg dksJ26_valueOf_0 23 rfl rfl
theorem dJ26_valueOf_0 : decode cJ26_valueOf 0 = .ok (.iload_n 0, 1) := dk_26 (dk_at dksJ26_valueOf_0 0 rfl rfl)
theorem dJ26_valueOf_1 : decode cJ26_valueOf 1 = .ok (.bipush (-128), 2) := dk_16 128 (dk_at dksJ26_valueOf_0 1 rfl rfl)
theorem dJ26_valueOf_3 : decode cJ26_valueOf 3 = .ok (.if_icmp .lt 20, 3) := dk_161 0 20 (dk_at dksJ26_valueOf_0 3 rfl rfl)
theorem dJ26_valueOf_6 : decode cJ26_valueOf 6 = .ok (.iload_n 0, 1) := dk_26 (dk_at dksJ26_valueOf_0 6 rfl rfl)
theorem dJ26_valueOf_7 : decode cJ26_valueOf 7 = .ok (.getstatic 191, 3) := dk_178 0 191 (dk_at dksJ26_valueOf_0 7 rfl rfl)
theorem dJ26_valueOf_10 : decode cJ26_valueOf 10 = .ok (.if_icmp .gt 13, 3) := dk_163 0 13 (dk_at dksJ26_valueOf_0 10 rfl rfl)
theorem dJ26_valueOf_13 : decode cJ26_valueOf 13 = .ok (.getstatic 195, 3) := dk_178 0 195 (dk_at dksJ26_valueOf_0 13 rfl rfl)
theorem dJ26_valueOf_16 : decode cJ26_valueOf 16 = .ok (.iload_n 0, 1) := dk_26 (dk_at dksJ26_valueOf_0 16 rfl rfl)
theorem dJ26_valueOf_17 : decode cJ26_valueOf 17 = .ok (.sipush 128, 3) := dk_17 0 128 (dk_at dksJ26_valueOf_0 17 rfl rfl)
theorem dJ26_valueOf_20 : decode cJ26_valueOf 20 = .ok (.iadd, 1) := dk_96 (dk_at dksJ26_valueOf_0 20 rfl rfl)
theorem dJ26_valueOf_21 : decode cJ26_valueOf 21 = .ok (.aaload, 1) := dk_50 (dk_at dksJ26_valueOf_0 21 rfl rfl)
theorem dJ26_valueOf_22 : decode cJ26_valueOf 22 = .ok (.areturn, 1) := dk_176 (dk_at dksJ26_valueOf_0 22 rfl rfl)
theorem dJ26_valueOf_23 : decode cJ26_valueOf 23 = .ok (.new 1, 3) := dk_187 0 1 (dk_at dksJ26_valueOf_1 0 rfl rfl)
theorem dJ26_valueOf_26 : decode cJ26_valueOf 26 = .ok (.dup, 1) := dk_89 (dk_at dksJ26_valueOf_1 3 rfl rfl)
theorem dJ26_valueOf_27 : decode cJ26_valueOf 27 = .ok (.iload_n 0, 1) := dk_26 (dk_at dksJ26_valueOf_1 4 rfl rfl)
theorem dJ26_valueOf_28 : decode cJ26_valueOf 28 = .ok (.invokespecial 199, 3) := dk_183 0 199 (dk_at dksJ26_valueOf_1 5 rfl rfl)
theorem dJ26_valueOf_31 : decode cJ26_valueOf 31 = .ok (.areturn, 1) := dk_176 (dk_at dksJ26_valueOf_1 8 rfl rfl)
abbrev cJ26_init : ByteArray := prog_17_method_23_code
def yJ26_init : MethodName := ⟨RJ26, "<init>", "(I)V"⟩
def dkwJ26_init_0 : List UInt8 := [42, 183, 0, 202, 42, 27, 181, 0, 205, 177]
abbrev dktJ26_init_0 : List UInt8 := dkwJ26_init_0 ++ []
theorem dksJ26_init_0 : cJ26_init.data.toList.drop 0 = dktJ26_init_0 := by decide +kernel
theorem dJ26_init_0 : decode cJ26_init 0 = .ok (.aload_n 0, 1) := dk_42 (dk_at dksJ26_init_0 0 rfl rfl)
theorem dJ26_init_1 : decode cJ26_init 1 = .ok (.invokespecial 202, 3) := dk_183 0 202 (dk_at dksJ26_init_0 1 rfl rfl)
theorem dJ26_init_4 : decode cJ26_init 4 = .ok (.aload_n 0, 1) := dk_42 (dk_at dksJ26_init_0 4 rfl rfl)
theorem dJ26_init_5 : decode cJ26_init 5 = .ok (.iload_n 1, 1) := dk_27 (dk_at dksJ26_init_0 5 rfl rfl)
theorem dJ26_init_6 : decode cJ26_init 6 = .ok (.putfield 205, 3) := dk_181 0 205 (dk_at dksJ26_init_0 6 rfl rfl)
theorem dJ26_init_9 : decode cJ26_init 9 = .ok (.return_, 1) := dk_177 (dk_at dksJ26_init_0 9 rfl rfl)
theorem q64 : (Jvm.Cond.initialized "java/lang/Integer") ∈ lw_all := lw_g (lw_at lw_m1 34 rfl) rfl
theorem q542 : (Jvm.Cond.selects "java/lang/Integer" ({ cls := "java/lang/Object", name := "getClass", desc := "()Ljava/lang/Class;" } : Jvm.MethodName) ({ cls := "java/lang/Object", name := "getClass", desc := "()Ljava/lang/Class;" } : Jvm.MethodName)) ∈ lw_all := lw_g (lw_at lw_m3 32 rfl) rfl
theorem q828 : (Jvm.Cond.selects "java/lang/Integer" ({ cls := "java/lang/Object", name := "hashCode", desc := "()I" } : Jvm.MethodName) ({ cls := "java/lang/Integer", name := "hashCode", desc := "()I" } : Jvm.MethodName)) ∈ lw_all := lw_g (lw_at lw_m4 78 rfl) rfl
theorem q829 : (Jvm.Cond.instanceMethod ({ cls := "java/lang/Integer", name := "hashCode", desc := "()I" } : Jvm.MethodName)) ∈ lw_all := lw_g (lw_at lw_m4 79 rfl) rfl
theorem q830 : (Jvm.Cond.code ({ cls := "java/lang/Integer", name := "hashCode", desc := "()I" } : Jvm.MethodName) prog_17_method_32_code (1 : Nat) (Option.some Jvm.ClassFile.FieldType.int)) ∈ lw_all := lw_g (lw_at lw_m4 80 rfl) rfl
theorem q831 : (Jvm.Cond.methodLink "java/lang/Integer" (208 : Nat) ({ cls := "java/lang/Integer", name := "hashCode", desc := "(I)I" } : Jvm.MethodName)) ∈ lw_all := lw_g (lw_at lw_m4 81 rfl) rfl
theorem q832 : (Jvm.Cond.static ({ cls := "java/lang/Integer", name := "hashCode", desc := "(I)I" } : Jvm.MethodName)) ∈ lw_all := lw_g (lw_at lw_m4 82 rfl) rfl
theorem q833 : (Jvm.Cond.code ({ cls := "java/lang/Integer", name := "hashCode", desc := "(I)I" } : Jvm.MethodName) prog_17_method_33_code (1 : Nat) (Option.some Jvm.ClassFile.FieldType.int)) ∈ lw_all := lw_g (lw_at lw_m4 83 rfl) rfl
theorem q1017 : (Jvm.Cond.castable "java/lang/Integer" "java/lang/Comparable") ∈ lw_tbl := lw_at lw_m5 27 rfl
theorem q1018 : (Jvm.Cond.selects "java/lang/Integer" ({ cls := "java/lang/Comparable", name := "compareTo", desc := "(Ljava/lang/Object;)I" } : Jvm.MethodName) ({ cls := "java/lang/Integer", name := "compareTo", desc := "(Ljava/lang/Object;)I" } : Jvm.MethodName)) ∈ lw_all := lw_g (lw_at lw_m5 28 rfl) rfl
theorem q1019 : (Jvm.Cond.unhidden "java/lang/Integer" "compareTo" "(Ljava/lang/Object;)I") ∈ lw_tbl := lw_at lw_m5 29 rfl
theorem q1020 : (Jvm.Cond.instanceMethod ({ cls := "java/lang/Integer", name := "compareTo", desc := "(Ljava/lang/Object;)I" } : Jvm.MethodName)) ∈ lw_all := lw_g (lw_at lw_m5 30 rfl) rfl
theorem q1021 : (Jvm.Cond.publicMethod ({ cls := "java/lang/Integer", name := "compareTo", desc := "(Ljava/lang/Object;)I" } : Jvm.MethodName)) ∈ lw_tbl := lw_at lw_m5 31 rfl
theorem q1022 : (Jvm.Cond.code ({ cls := "java/lang/Integer", name := "compareTo", desc := "(Ljava/lang/Object;)I" } : Jvm.MethodName) prog_17_method_63_code (2 : Nat) (Option.some Jvm.ClassFile.FieldType.int)) ∈ lw_all := lw_g (lw_at lw_m5 32 rfl) rfl
theorem q1023 : (Jvm.Cond.classLink "java/lang/Integer" (1 : Nat) "java/lang/Integer") ∈ lw_all := lw_g (lw_at lw_m5 33 rfl) rfl
theorem q1024 : (Jvm.Cond.methodLink "java/lang/Integer" (284 : Nat) ({ cls := "java/lang/Integer", name := "compareTo", desc := "(Ljava/lang/Integer;)I" } : Jvm.MethodName)) ∈ lw_all := lw_g (lw_at lw_m5 34 rfl) rfl
theorem q1025 : (Jvm.Cond.instanceMethod ({ cls := "java/lang/Integer", name := "compareTo", desc := "(Ljava/lang/Integer;)I" } : Jvm.MethodName)) ∈ lw_all := lw_g (lw_at lw_m5 35 rfl) rfl
theorem q1026 : (Jvm.Cond.selects "java/lang/Integer" ({ cls := "java/lang/Integer", name := "compareTo", desc := "(Ljava/lang/Integer;)I" } : Jvm.MethodName) ({ cls := "java/lang/Integer", name := "compareTo", desc := "(Ljava/lang/Integer;)I" } : Jvm.MethodName)) ∈ lw_all := lw_g (lw_at lw_m5 36 rfl) rfl
theorem q1027 : (Jvm.Cond.code ({ cls := "java/lang/Integer", name := "compareTo", desc := "(Ljava/lang/Integer;)I" } : Jvm.MethodName) prog_17_method_39_code (2 : Nat) (Option.some Jvm.ClassFile.FieldType.int)) ∈ lw_all := lw_g (lw_at lw_m5 37 rfl) rfl
theorem q1028 : (Jvm.Cond.methodLink "java/lang/Integer" (259 : Nat) ({ cls := "java/lang/Integer", name := "compare", desc := "(II)I" } : Jvm.MethodName)) ∈ lw_all := lw_g (lw_at lw_m5 38 rfl) rfl
theorem q1029 : (Jvm.Cond.static ({ cls := "java/lang/Integer", name := "compare", desc := "(II)I" } : Jvm.MethodName)) ∈ lw_all := lw_g (lw_at lw_m5 39 rfl) rfl
theorem q1030 : (Jvm.Cond.code ({ cls := "java/lang/Integer", name := "compare", desc := "(II)I" } : Jvm.MethodName) prog_17_method_40_code (2 : Nat) (Option.some Jvm.ClassFile.FieldType.int)) ∈ lw_all := lw_g (lw_at lw_m5 40 rfl) rfl
theorem q1125 : (Jvm.Cond.static ({ cls := "java/lang/Integer", name := "numberOfLeadingZeros", desc := "(I)I" } : Jvm.MethodName)) ∈ lw_all := lw_g (lw_at lw_m5 135 rfl) rfl
theorem q1126 : (Jvm.Cond.code ({ cls := "java/lang/Integer", name := "numberOfLeadingZeros", desc := "(I)I" } : Jvm.MethodName) prog_17_method_47_code (2 : Nat) (Option.some Jvm.ClassFile.FieldType.int)) ∈ lw_all := lw_g (lw_at lw_m5 136 rfl) rfl
theorem q1127 : (Jvm.Cond.constant "java/lang/Integer" (264 : Nat) (65536 : Int32)) ∈ lw_all := lw_g (lw_at lw_m5 137 rfl) rfl
theorem q1134 : (Jvm.Cond.static ({ cls := "java/lang/Integer", name := "numberOfTrailingZeros", desc := "(I)I" } : Jvm.MethodName)) ∈ lw_all := lw_g (lw_at lw_m5 144 rfl) rfl
theorem q1135 : (Jvm.Cond.code ({ cls := "java/lang/Integer", name := "numberOfTrailingZeros", desc := "(I)I" } : Jvm.MethodName) prog_17_method_48_code (2 : Nat) (Option.some Jvm.ClassFile.FieldType.int)) ∈ lw_all := lw_g (lw_at lw_m5 145 rfl) rfl
theorem q1266 : (Jvm.Cond.selects "java/lang/Integer" ({ cls := "java/lang/Object", name := "equals", desc := "(Ljava/lang/Object;)Z" } : Jvm.MethodName) ({ cls := "java/lang/Integer", name := "equals", desc := "(Ljava/lang/Object;)Z" } : Jvm.MethodName)) ∈ lw_all := lw_g (lw_at lw_m6 36 rfl) rfl
theorem q1267 : (Jvm.Cond.instanceMethod ({ cls := "java/lang/Integer", name := "equals", desc := "(Ljava/lang/Object;)Z" } : Jvm.MethodName)) ∈ lw_all := lw_g (lw_at lw_m6 37 rfl) rfl
theorem q1268 : (Jvm.Cond.code ({ cls := "java/lang/Integer", name := "equals", desc := "(Ljava/lang/Object;)Z" } : Jvm.MethodName) prog_17_method_34_code (2 : Nat) (Option.some Jvm.ClassFile.FieldType.boolean)) ∈ lw_all := lw_g (lw_at lw_m6 38 rfl) rfl
theorem q1269 : (Jvm.Cond.methodLink "java/lang/Integer" (211 : Nat) ({ cls := "java/lang/Integer", name := "intValue", desc := "()I" } : Jvm.MethodName)) ∈ lw_all := lw_g (lw_at lw_m6 39 rfl) rfl
theorem q1270 : (Jvm.Cond.instanceMethod ({ cls := "java/lang/Integer", name := "intValue", desc := "()I" } : Jvm.MethodName)) ∈ lw_all := lw_g (lw_at lw_m6 40 rfl) rfl
theorem q1271 : (Jvm.Cond.selects "java/lang/Integer" ({ cls := "java/lang/Integer", name := "intValue", desc := "()I" } : Jvm.MethodName) ({ cls := "java/lang/Integer", name := "intValue", desc := "()I" } : Jvm.MethodName)) ∈ lw_all := lw_g (lw_at lw_m6 41 rfl) rfl
theorem q1272 : (Jvm.Cond.code ({ cls := "java/lang/Integer", name := "intValue", desc := "()I" } : Jvm.MethodName) prog_17_method_27_code (1 : Nat) (Option.some Jvm.ClassFile.FieldType.int)) ∈ lw_all := lw_g (lw_at lw_m6 42 rfl) rfl
theorem q1955 : (Jvm.Cond.static ({ cls := "java/lang/Integer", name := "valueOf", desc := "(I)Ljava/lang/Integer;" } : Jvm.MethodName)) ∈ lw_all := lw_g (lw_at lw_m9 5 rfl) rfl
theorem q1956 : (Jvm.Cond.code ({ cls := "java/lang/Integer", name := "valueOf", desc := "(I)Ljava/lang/Integer;" } : Jvm.MethodName) prog_17_method_22_code (1 : Nat) (Option.some (Jvm.ClassFile.FieldType.object "java/lang/Integer"))) ∈ lw_all := lw_g (lw_at lw_m9 6 rfl) rfl
theorem q1957 : (Jvm.Cond.fieldLink "java/lang/Integer" (191 : Nat) "java/lang/Integer$IntegerCache" "high" "I") ∈ lw_all := lw_g (lw_at lw_m9 7 rfl) rfl
theorem q1959 : (Jvm.Cond.fieldLink "java/lang/Integer" (195 : Nat) "java/lang/Integer$IntegerCache" "cache" "[Ljava/lang/Integer;") ∈ lw_all := lw_g (lw_at lw_m9 9 rfl) rfl
theorem q1961 : (Jvm.Cond.instantiable "java/lang/Integer" (1 : Nat)) ∈ lw_all := lw_g (lw_at lw_m9 11 rfl) rfl
theorem q1962 : (Jvm.Cond.methodLink "java/lang/Integer" (199 : Nat) ({ cls := "java/lang/Integer", name := "<init>", desc := "(I)V" } : Jvm.MethodName)) ∈ lw_all := lw_g (lw_at lw_m9 12 rfl) rfl
theorem q1963 : (Jvm.Cond.instanceMethod ({ cls := "java/lang/Integer", name := "<init>", desc := "(I)V" } : Jvm.MethodName)) ∈ lw_all := lw_g (lw_at lw_m9 13 rfl) rfl
theorem q1964 : (Jvm.Cond.code ({ cls := "java/lang/Integer", name := "<init>", desc := "(I)V" } : Jvm.MethodName) prog_17_method_23_code (2 : Nat) (Option.none : Option Jvm.ClassFile.FieldType)) ∈ lw_all := lw_g (lw_at lw_m9 14 rfl) rfl
theorem q1965 : (Jvm.Cond.methodLink "java/lang/Integer" (202 : Nat) ({ cls := "java/lang/Number", name := "<init>", desc := "()V" } : Jvm.MethodName)) ∈ lw_all := lw_g (lw_at lw_m9 15 rfl) rfl
theorem q1969 : (Jvm.Cond.fieldLink "java/lang/Integer" (205 : Nat) "java/lang/Integer" "value" "I") ∈ lw_all := lw_g (lw_at lw_m9 19 rfl) rfl
theorem q1970 : (Jvm.Cond.laysFinal "java/lang/Integer" "java/lang/Integer" "value" "I") ∈ lw_all := lw_g (lw_at lw_m9 20 rfl) rfl
theorem q1971 : (Jvm.Cond.soleField "java/lang/Integer" "value") ∈ lw_all := lw_g (lw_at lw_m9 21 rfl) rfl
theorem q1972 : (Jvm.Cond.superclass "java/lang/Integer" "java/lang/Number") ∈ lw_all := lw_g (lw_at lw_m9 22 rfl) rfl
theorem q2438 : (Jvm.Cond.castable "java/lang/Integer" "java/lang/Object") ∈ lw_tbl := lw_at lw_m11 8 rfl
theorem in_J26 : ∀ w ∈ wsJ260, w ∈ lw_all := lw_in wsJ260 [1970] (by decide +kernel) (by decide +kernel)
/-! java/lang/StringLatin1 -/
set_option maxRecDepth 100000
def RJ27 : String := "java/lang/StringLatin1"
abbrev cJ27_hashCode : ByteArray := prog_25_method_21_code
def yJ27_hashCode : MethodName := ⟨RJ27, "hashCode", "([B)I"⟩
abbrev cJ27_compareTo : ByteArray := prog_25_method_14_code
def yJ27_compareTo : MethodName := ⟨RJ27, "compareTo", "([B[B)I"⟩
abbrev cJ27_compareTo_2 : ByteArray := prog_25_method_15_code
def yJ27_compareTo_2 : MethodName := ⟨RJ27, "compareTo", "([B[BII)I"⟩
abbrev cJ27_getChar : ByteArray := prog_25_method_44_code
def yJ27_getChar : MethodName := ⟨RJ27, "getChar", "([BI)C"⟩
abbrev cJ27_compareToUTF16 : ByteArray := prog_25_method_16_code
def yJ27_compareToUTF16 : MethodName := ⟨RJ27, "compareToUTF16", "([B[B)I"⟩
abbrev cJ27_length : ByteArray := prog_25_method_5_code
def yJ27_length : MethodName := ⟨RJ27, "length", "([B)I"⟩
abbrev cJ27_compareToUTF16Values : ByteArray := prog_25_method_18_code
def yJ27_compareToUTF16Values : MethodName := ⟨RJ27, "compareToUTF16Values", "([B[BII)I"⟩
abbrev cJ27_compareToUTF16_2 : ByteArray := prog_25_method_17_code
def yJ27_compareToUTF16_2 : MethodName := ⟨RJ27, "compareToUTF16", "([B[BII)I"⟩
abbrev cJ27_equals : ByteArray := prog_25_method_13_code
def yJ27_equals : MethodName := ⟨RJ27, "equals", "([B[B)Z"⟩
abbrev cJ27_canEncode : ByteArray := prog_25_method_3_code
def yJ27_canEncode : MethodName := ⟨RJ27, "canEncode", "(C)Z"⟩
def dkwJ27_canEncode_0 : List UInt8 := [26, 17, 0, 255, 163, 0, 7, 4, 167, 0, 4, 3, 172]
abbrev dktJ27_canEncode_0 : List UInt8 := dkwJ27_canEncode_0 ++ []
theorem dksJ27_canEncode_0 : cJ27_canEncode.data.toList.drop 0 = dktJ27_canEncode_0 := by decide +kernel
theorem dJ27_canEncode_0 : decode cJ27_canEncode 0 = .ok (.iload_n 0, 1) := dk_26 (dk_at dksJ27_canEncode_0 0 rfl rfl)
theorem dJ27_canEncode_1 : decode cJ27_canEncode 1 = .ok (.sipush 255, 3) := dk_17 0 255 (dk_at dksJ27_canEncode_0 1 rfl rfl)
theorem dJ27_canEncode_4 : decode cJ27_canEncode 4 = .ok (.if_icmp .gt 7, 3) := dk_163 0 7 (dk_at dksJ27_canEncode_0 4 rfl rfl)
theorem dJ27_canEncode_7 : decode cJ27_canEncode 7 = .ok (.iconst 1, 1) := dk_4 (dk_at dksJ27_canEncode_0 7 rfl rfl)
theorem dJ27_canEncode_8 : decode cJ27_canEncode 8 = .ok (.goto 4, 3) := dk_167 0 4 (dk_at dksJ27_canEncode_0 8 rfl rfl)
theorem dJ27_canEncode_11 : decode cJ27_canEncode 11 = .ok (.iconst 0, 1) := dk_3 (dk_at dksJ27_canEncode_0 11 rfl rfl)
theorem dJ27_canEncode_12 : decode cJ27_canEncode 12 = .ok (.ireturn, 1) := dk_172 (dk_at dksJ27_canEncode_0 12 rfl rfl)
abbrev cJ27_inflate : ByteArray := prog_25_method_50_code
def yJ27_inflate : MethodName := ⟨RJ27, "inflate", "([BI[BII)V"⟩
abbrev cJ27_fillNull : ByteArray := prog_25_method_48_code
def yJ27_fillNull : MethodName := ⟨RJ27, "fillNull", "([BII)V"⟩
abbrev cJ27_charAt : ByteArray := prog_25_method_2_code
def yJ27_charAt : MethodName := ⟨RJ27, "charAt", "([BI)C"⟩
def dkwJ27_charAt_0 : List UInt8 := [27, 42, 190, 184, 0, 9, 42, 27, 51, 17, 0, 255, 126, 146, 172]
abbrev dktJ27_charAt_0 : List UInt8 := dkwJ27_charAt_0 ++ []
theorem dksJ27_charAt_0 : cJ27_charAt.data.toList.drop 0 = dktJ27_charAt_0 := by decide +kernel
theorem dJ27_charAt_0 : decode cJ27_charAt 0 = .ok (.iload_n 1, 1) := dk_27 (dk_at dksJ27_charAt_0 0 rfl rfl)
theorem dJ27_charAt_1 : decode cJ27_charAt 1 = .ok (.aload_n 0, 1) := dk_42 (dk_at dksJ27_charAt_0 1 rfl rfl)
theorem dJ27_charAt_2 : decode cJ27_charAt 2 = .ok (.arraylength, 1) := dk_190 (dk_at dksJ27_charAt_0 2 rfl rfl)
theorem dJ27_charAt_3 : decode cJ27_charAt 3 = .ok (.invokestatic 9, 3) := dk_184 0 9 (dk_at dksJ27_charAt_0 3 rfl rfl)
theorem dJ27_charAt_6 : decode cJ27_charAt 6 = .ok (.aload_n 0, 1) := dk_42 (dk_at dksJ27_charAt_0 6 rfl rfl)
theorem dJ27_charAt_7 : decode cJ27_charAt 7 = .ok (.iload_n 1, 1) := dk_27 (dk_at dksJ27_charAt_0 7 rfl rfl)
theorem dJ27_charAt_8 : decode cJ27_charAt 8 = .ok (.baload, 1) := dk_51 (dk_at dksJ27_charAt_0 8 rfl rfl)
theorem dJ27_charAt_9 : decode cJ27_charAt 9 = .ok (.sipush 255, 3) := dk_17 0 255 (dk_at dksJ27_charAt_0 9 rfl rfl)
theorem dJ27_charAt_12 : decode cJ27_charAt 12 = .ok (.iand, 1) := dk_126 (dk_at dksJ27_charAt_0 12 rfl rfl)
theorem dJ27_charAt_13 : decode cJ27_charAt 13 = .ok (.i2c, 1) := dk_146 (dk_at dksJ27_charAt_0 13 rfl rfl)
theorem dJ27_charAt_14 : decode cJ27_charAt 14 = .ok (.ireturn, 1) := dk_172 (dk_at dksJ27_charAt_0 14 rfl rfl)
theorem q65 : (Jvm.Cond.initialized "java/lang/StringLatin1") ∈ lw_all := lw_g (lw_at lw_m1 35 rfl) rfl
theorem q843 : (Jvm.Cond.static ({ cls := "java/lang/StringLatin1", name := "hashCode", desc := "([B)I" } : Jvm.MethodName)) ∈ lw_all := lw_g (lw_at lw_m4 93 rfl) rfl
theorem q844 : (Jvm.Cond.code ({ cls := "java/lang/StringLatin1", name := "hashCode", desc := "([B)I" } : Jvm.MethodName) prog_25_method_21_code (1 : Nat) (Option.some Jvm.ClassFile.FieldType.int)) ∈ lw_all := lw_g (lw_at lw_m4 94 rfl) rfl
theorem q845 : (Jvm.Cond.methodLink "java/lang/StringLatin1" (84 : Nat) ({ cls := "jdk/internal/util/ArraysSupport", name := "vectorizedHashCode", desc := "(Ljava/lang/Object;IIII)I" } : Jvm.MethodName)) ∈ lw_all := lw_g (lw_at lw_m4 95 rfl) rfl
theorem q1047 : (Jvm.Cond.static ({ cls := "java/lang/StringLatin1", name := "compareTo", desc := "([B[B)I" } : Jvm.MethodName)) ∈ lw_all := lw_g (lw_at lw_m5 57 rfl) rfl
theorem q1048 : (Jvm.Cond.code ({ cls := "java/lang/StringLatin1", name := "compareTo", desc := "([B[B)I" } : Jvm.MethodName) prog_25_method_14_code (4 : Nat) (Option.some Jvm.ClassFile.FieldType.int)) ∈ lw_all := lw_g (lw_at lw_m5 58 rfl) rfl
theorem q1049 : (Jvm.Cond.methodLink "java/lang/StringLatin1" (34 : Nat) ({ cls := "java/lang/StringLatin1", name := "compareTo", desc := "([B[BII)I" } : Jvm.MethodName)) ∈ lw_all := lw_g (lw_at lw_m5 59 rfl) rfl
theorem q1050 : (Jvm.Cond.static ({ cls := "java/lang/StringLatin1", name := "compareTo", desc := "([B[BII)I" } : Jvm.MethodName)) ∈ lw_all := lw_g (lw_at lw_m5 60 rfl) rfl
theorem q1051 : (Jvm.Cond.code ({ cls := "java/lang/StringLatin1", name := "compareTo", desc := "([B[BII)I" } : Jvm.MethodName) prog_25_method_15_code (6 : Nat) (Option.some Jvm.ClassFile.FieldType.int)) ∈ lw_all := lw_g (lw_at lw_m5 61 rfl) rfl
theorem q1052 : (Jvm.Cond.methodLink "java/lang/StringLatin1" (38 : Nat) ({ cls := "java/lang/Math", name := "min", desc := "(II)I" } : Jvm.MethodName)) ∈ lw_all := lw_g (lw_at lw_m5 62 rfl) rfl
theorem q1053 : (Jvm.Cond.methodLink "java/lang/StringLatin1" (44 : Nat) ({ cls := "jdk/internal/util/ArraysSupport", name := "mismatch", desc := "([B[BI)I" } : Jvm.MethodName)) ∈ lw_all := lw_g (lw_at lw_m5 63 rfl) rfl
theorem q1157 : (Jvm.Cond.methodLink "java/lang/StringLatin1" (50 : Nat) ({ cls := "java/lang/StringLatin1", name := "getChar", desc := "([BI)C" } : Jvm.MethodName)) ∈ lw_all := lw_g (lw_at lw_m5 167 rfl) rfl
theorem q1158 : (Jvm.Cond.static ({ cls := "java/lang/StringLatin1", name := "getChar", desc := "([BI)C" } : Jvm.MethodName)) ∈ lw_all := lw_g (lw_at lw_m5 168 rfl) rfl
theorem q1159 : (Jvm.Cond.code ({ cls := "java/lang/StringLatin1", name := "getChar", desc := "([BI)C" } : Jvm.MethodName) prog_25_method_44_code (2 : Nat) (Option.some Jvm.ClassFile.FieldType.char)) ∈ lw_all := lw_g (lw_at lw_m5 169 rfl) rfl
theorem q1168 : (Jvm.Cond.static ({ cls := "java/lang/StringLatin1", name := "compareToUTF16", desc := "([B[B)I" } : Jvm.MethodName)) ∈ lw_all := lw_g (lw_at lw_m5 178 rfl) rfl
theorem q1169 : (Jvm.Cond.code ({ cls := "java/lang/StringLatin1", name := "compareToUTF16", desc := "([B[B)I" } : Jvm.MethodName) prog_25_method_16_code (4 : Nat) (Option.some Jvm.ClassFile.FieldType.int)) ∈ lw_all := lw_g (lw_at lw_m5 179 rfl) rfl
theorem q1170 : (Jvm.Cond.methodLink "java/lang/StringLatin1" (54 : Nat) ({ cls := "java/lang/StringLatin1", name := "length", desc := "([B)I" } : Jvm.MethodName)) ∈ lw_all := lw_g (lw_at lw_m5 180 rfl) rfl
theorem q1171 : (Jvm.Cond.static ({ cls := "java/lang/StringLatin1", name := "length", desc := "([B)I" } : Jvm.MethodName)) ∈ lw_all := lw_g (lw_at lw_m5 181 rfl) rfl
theorem q1172 : (Jvm.Cond.code ({ cls := "java/lang/StringLatin1", name := "length", desc := "([B)I" } : Jvm.MethodName) prog_25_method_5_code (1 : Nat) (Option.some Jvm.ClassFile.FieldType.int)) ∈ lw_all := lw_g (lw_at lw_m5 182 rfl) rfl
theorem q1173 : (Jvm.Cond.methodLink "java/lang/StringLatin1" (58 : Nat) ({ cls := "java/lang/StringUTF16", name := "length", desc := "([B)I" } : Jvm.MethodName)) ∈ lw_all := lw_g (lw_at lw_m5 183 rfl) rfl
theorem q1174 : (Jvm.Cond.methodLink "java/lang/StringLatin1" (59 : Nat) ({ cls := "java/lang/StringLatin1", name := "compareToUTF16Values", desc := "([B[BII)I" } : Jvm.MethodName)) ∈ lw_all := lw_g (lw_at lw_m5 184 rfl) rfl
theorem q1175 : (Jvm.Cond.static ({ cls := "java/lang/StringLatin1", name := "compareToUTF16Values", desc := "([B[BII)I" } : Jvm.MethodName)) ∈ lw_all := lw_g (lw_at lw_m5 185 rfl) rfl
theorem q1176 : (Jvm.Cond.code ({ cls := "java/lang/StringLatin1", name := "compareToUTF16Values", desc := "([B[BII)I" } : Jvm.MethodName) prog_25_method_18_code (8 : Nat) (Option.some Jvm.ClassFile.FieldType.int)) ∈ lw_all := lw_g (lw_at lw_m5 186 rfl) rfl
theorem q1177 : (Jvm.Cond.methodLink "java/lang/StringLatin1" (65 : Nat) ({ cls := "java/lang/StringUTF16", name := "getChar", desc := "([BI)C" } : Jvm.MethodName)) ∈ lw_all := lw_g (lw_at lw_m5 187 rfl) rfl
theorem q1217 : (Jvm.Cond.static ({ cls := "java/lang/StringLatin1", name := "compareToUTF16", desc := "([B[BII)I" } : Jvm.MethodName)) ∈ lw_all := lw_g (lw_at lw_m5 227 rfl) rfl
theorem q1218 : (Jvm.Cond.code ({ cls := "java/lang/StringLatin1", name := "compareToUTF16", desc := "([B[BII)I" } : Jvm.MethodName) prog_25_method_17_code (4 : Nat) (Option.some Jvm.ClassFile.FieldType.int)) ∈ lw_all := lw_g (lw_at lw_m5 228 rfl) rfl
theorem q1219 : (Jvm.Cond.methodLink "java/lang/StringLatin1" (62 : Nat) ({ cls := "java/lang/String", name := "checkOffset", desc := "(II)V" } : Jvm.MethodName)) ∈ lw_all := lw_g (lw_at lw_m5 229 rfl) rfl
theorem q1277 : (Jvm.Cond.static ({ cls := "java/lang/StringLatin1", name := "equals", desc := "([B[B)Z" } : Jvm.MethodName)) ∈ lw_all := lw_g (lw_at lw_m6 47 rfl) rfl
theorem q1278 : (Jvm.Cond.code ({ cls := "java/lang/StringLatin1", name := "equals", desc := "([B[B)Z" } : Jvm.MethodName) prog_25_method_13_code (3 : Nat) (Option.some Jvm.ClassFile.FieldType.boolean)) ∈ lw_all := lw_g (lw_at lw_m6 48 rfl) rfl
theorem q1572 : (Jvm.Cond.static ({ cls := "java/lang/StringLatin1", name := "canEncode", desc := "(C)Z" } : Jvm.MethodName)) ∈ lw_all := lw_g (lw_at lw_m7 102 rfl) rfl
theorem q1573 : (Jvm.Cond.code ({ cls := "java/lang/StringLatin1", name := "canEncode", desc := "(C)Z" } : Jvm.MethodName) prog_25_method_3_code (1 : Nat) (Option.some Jvm.ClassFile.FieldType.boolean)) ∈ lw_all := lw_g (lw_at lw_m7 103 rfl) rfl
theorem q1579 : (Jvm.Cond.static ({ cls := "java/lang/StringLatin1", name := "inflate", desc := "([BI[BII)V" } : Jvm.MethodName)) ∈ lw_all := lw_g (lw_at lw_m7 109 rfl) rfl
theorem q1580 : (Jvm.Cond.code ({ cls := "java/lang/StringLatin1", name := "inflate", desc := "([BI[BII)V" } : Jvm.MethodName) prog_25_method_50_code (5 : Nat) (Option.none : Option Jvm.ClassFile.FieldType)) ∈ lw_all := lw_g (lw_at lw_m7 110 rfl) rfl
theorem q1581 : (Jvm.Cond.methodLink "java/lang/StringLatin1" (240 : Nat) ({ cls := "java/lang/StringUTF16", name := "inflate", desc := "([BI[BII)V" } : Jvm.MethodName)) ∈ lw_all := lw_g (lw_at lw_m7 111 rfl) rfl
theorem q1618 : (Jvm.Cond.static ({ cls := "java/lang/StringLatin1", name := "fillNull", desc := "([BII)V" } : Jvm.MethodName)) ∈ lw_all := lw_g (lw_at lw_m7 148 rfl) rfl
theorem q1619 : (Jvm.Cond.code ({ cls := "java/lang/StringLatin1", name := "fillNull", desc := "([BII)V" } : Jvm.MethodName) prog_25_method_48_code (3 : Nat) (Option.none : Option Jvm.ClassFile.FieldType)) ∈ lw_all := lw_g (lw_at lw_m7 149 rfl) rfl
theorem q1620 : (Jvm.Cond.methodLink "java/lang/StringLatin1" (236 : Nat) ({ cls := "java/util/Arrays", name := "fill", desc := "([BIIB)V" } : Jvm.MethodName)) ∈ lw_all := lw_g (lw_at lw_m7 150 rfl) rfl
theorem q1881 : (Jvm.Cond.static ({ cls := "java/lang/StringLatin1", name := "charAt", desc := "([BI)C" } : Jvm.MethodName)) ∈ lw_all := lw_g (lw_at lw_m8 171 rfl) rfl
theorem q1882 : (Jvm.Cond.code ({ cls := "java/lang/StringLatin1", name := "charAt", desc := "([BI)C" } : Jvm.MethodName) prog_25_method_2_code (2 : Nat) (Option.some Jvm.ClassFile.FieldType.char)) ∈ lw_all := lw_g (lw_at lw_m8 172 rfl) rfl
theorem q1883 : (Jvm.Cond.methodLink "java/lang/StringLatin1" (9 : Nat) ({ cls := "java/lang/String", name := "checkIndex", desc := "(II)V" } : Jvm.MethodName)) ∈ lw_all := lw_g (lw_at lw_m8 173 rfl) rfl
/-! java/util/HashMap$Node -/
set_option maxRecDepth 100000
def RJ28 : String := "java/util/HashMap$Node"
def TJ28 : u_T := fun k => match k with
  | 0 => ("java/util/HashMap$Node", "hash", "I", true)
  | 1 => ("java/util/HashMap$Node", "key", "Ljava/lang/Object;", true)
  | 2 => ("java/util/HashMap$Node", "value", "Ljava/lang/Object;", false)
  | _ => ("java/util/HashMap$Node", "next", "Ljava/util/HashMap$Node;", false)
def tyJ28 : Nat → FieldType := fun k => match k with
  | 0 => .int
  | 1 => .object "java/lang/Object"
  | 2 => .object "java/lang/Object"
  | _ => .object "java/util/HashMap$Node"
abbrev wsJ280 : List Cond := u_ws RJ28 TJ28 4
theorem nmJ28 : ∀ a, a < 4 → ∀ b, b < 4 → a ≠ b → (TJ28 a).2.1 ≠ (TJ28 b).2.1 := by decide +kernel
theorem tyJ28_ok : ∀ k, k < 4 → parseFieldDescriptor (TJ28 k).2.2.1 = some (tyJ28 k) := by decide +kernel
abbrev cJ28_getKey : ByteArray := prog_45_method_2_code
def yJ28_getKey : MethodName := ⟨RJ28, "getKey", "()Ljava/lang/Object;"⟩
theorem dJ28_getKey_0 : decode cJ28_getKey 0 = .ok (.aload_n 0, 1) := by decide +kernel
theorem dJ28_getKey_1 : decode cJ28_getKey 1 = .ok (.getfield 13, 3) := by decide +kernel
theorem dJ28_getKey_4 : decode cJ28_getKey 4 = .ok (.areturn, 1) := by decide +kernel
abbrev cJ28_getValue : ByteArray := prog_45_method_3_code
def yJ28_getValue : MethodName := ⟨RJ28, "getValue", "()Ljava/lang/Object;"⟩
theorem dJ28_getValue_0 : decode cJ28_getValue 0 = .ok (.aload_n 0, 1) := by decide +kernel
theorem dJ28_getValue_1 : decode cJ28_getValue 1 = .ok (.getfield 17, 3) := by decide +kernel
theorem dJ28_getValue_4 : decode cJ28_getValue 4 = .ok (.areturn, 1) := by decide +kernel
abbrev cJ28_init : ByteArray := prog_45_method_1_code
def yJ28_init : MethodName := ⟨RJ28, "<init>", "(ILjava/lang/Object;Ljava/lang/Object;Ljava/util/HashMap$Node;)V"⟩
def dkwJ28_init_1 : List UInt8 := [181, 0, 20, 177]
abbrev dktJ28_init_1 : List UInt8 := dkwJ28_init_1 ++ []
def dkwJ28_init_0 : List UInt8 := [42, 183, 0, 1, 42, 27, 181, 0, 7, 42, 44, 181, 0, 13, 42, 45, 181, 0, 17, 42, 25, 4]
abbrev dktJ28_init_0 : List UInt8 := dkwJ28_init_0 ++ dktJ28_init_1
theorem dksJ28_init_0 : cJ28_init.data.toList.drop 0 = dktJ28_init_0 := by decide +kernel
theorem dksJ28_init_1 : cJ28_init.data.toList.drop 22 = dktJ28_init_1 := dk_seg dksJ28_init_0 22 rfl rfl
theorem dJ28_init_0 : decode cJ28_init 0 = .ok (.aload_n 0, 1) := dk_42 (dk_at dksJ28_init_0 0 rfl rfl)
theorem dJ28_init_1 : decode cJ28_init 1 = .ok (.invokespecial 1, 3) := dk_183 0 1 (dk_at dksJ28_init_0 1 rfl rfl)
theorem dJ28_init_4 : decode cJ28_init 4 = .ok (.aload_n 0, 1) := dk_42 (dk_at dksJ28_init_0 4 rfl rfl)
theorem dJ28_init_5 : decode cJ28_init 5 = .ok (.iload_n 1, 1) := dk_27 (dk_at dksJ28_init_0 5 rfl rfl)
theorem dJ28_init_6 : decode cJ28_init 6 = .ok (.putfield 7, 3) := dk_181 0 7 (dk_at dksJ28_init_0 6 rfl rfl)
theorem dJ28_init_9 : decode cJ28_init 9 = .ok (.aload_n 0, 1) := dk_42 (dk_at dksJ28_init_0 9 rfl rfl)
theorem dJ28_init_10 : decode cJ28_init 10 = .ok (.aload_n 2, 1) := dk_44 (dk_at dksJ28_init_0 10 rfl rfl)
theorem dJ28_init_11 : decode cJ28_init 11 = .ok (.putfield 13, 3) := dk_181 0 13 (dk_at dksJ28_init_0 11 rfl rfl)
theorem dJ28_init_14 : decode cJ28_init 14 = .ok (.aload_n 0, 1) := dk_42 (dk_at dksJ28_init_0 14 rfl rfl)
theorem dJ28_init_15 : decode cJ28_init 15 = .ok (.aload_n 3, 1) := dk_45 (dk_at dksJ28_init_0 15 rfl rfl)
theorem dJ28_init_16 : decode cJ28_init 16 = .ok (.putfield 17, 3) := dk_181 0 17 (dk_at dksJ28_init_0 16 rfl rfl)
theorem dJ28_init_19 : decode cJ28_init 19 = .ok (.aload_n 0, 1) := dk_42 (dk_at dksJ28_init_0 19 rfl rfl)
theorem dJ28_init_20 : decode cJ28_init 20 = .ok (.aload 4, 2) := dk_25 4 (dk_at dksJ28_init_0 20 rfl rfl)
theorem dJ28_init_22 : decode cJ28_init 22 = .ok (.putfield 20, 3) := dk_181 0 20 (dk_at dksJ28_init_1 0 rfl rfl)
theorem dJ28_init_25 : decode cJ28_init 25 = .ok (.return_, 1) := dk_177 (dk_at dksJ28_init_1 3 rfl rfl)
theorem q66 : (Jvm.Cond.initialized "java/util/HashMap$Node") ∈ lw_all := lw_g (lw_at lw_m1 36 rfl) rfl
theorem q459 : (Jvm.Cond.declares ({ cls := "java/util/HashMap$Node", name := "getKey", desc := "()Ljava/lang/Object;" } : Jvm.MethodName)) ∈ lw_tbl := lw_at lw_m2 189 rfl
theorem q462 : (Jvm.Cond.instanceMethod ({ cls := "java/util/HashMap$Node", name := "getKey", desc := "()Ljava/lang/Object;" } : Jvm.MethodName)) ∈ lw_all := lw_g (lw_at lw_m2 192 rfl) rfl
theorem q463 : (Jvm.Cond.code ({ cls := "java/util/HashMap$Node", name := "getKey", desc := "()Ljava/lang/Object;" } : Jvm.MethodName) prog_45_method_2_code (1 : Nat) (Option.some (Jvm.ClassFile.FieldType.object "java/lang/Object"))) ∈ lw_all := lw_g (lw_at lw_m2 193 rfl) rfl
theorem q553 : (Jvm.Cond.selects "java/util/HashMap$Node" ({ cls := "java/lang/Object", name := "getClass", desc := "()Ljava/lang/Class;" } : Jvm.MethodName) ({ cls := "java/lang/Object", name := "getClass", desc := "()Ljava/lang/Class;" } : Jvm.MethodName)) ∈ lw_all := lw_g (lw_at lw_m3 43 rfl) rfl
theorem q776 : (Jvm.Cond.castable "java/util/HashMap$Node" "java/util/Map$Entry") ∈ lw_tbl := lw_at lw_m4 26 rfl
theorem q777 : (Jvm.Cond.selects "java/util/HashMap$Node" ({ cls := "java/util/Map$Entry", name := "getKey", desc := "()Ljava/lang/Object;" } : Jvm.MethodName) ({ cls := "java/util/HashMap$Node", name := "getKey", desc := "()Ljava/lang/Object;" } : Jvm.MethodName)) ∈ lw_all := lw_g (lw_at lw_m4 27 rfl) rfl
theorem q778 : (Jvm.Cond.unhidden "java/util/HashMap$Node" "getKey" "()Ljava/lang/Object;") ∈ lw_tbl := lw_at lw_m4 28 rfl
theorem q779 : (Jvm.Cond.publicMethod ({ cls := "java/util/HashMap$Node", name := "getKey", desc := "()Ljava/lang/Object;" } : Jvm.MethodName)) ∈ lw_tbl := lw_at lw_m4 29 rfl
theorem q791 : (Jvm.Cond.selects "java/util/HashMap$Node" ({ cls := "java/util/Map$Entry", name := "getValue", desc := "()Ljava/lang/Object;" } : Jvm.MethodName) ({ cls := "java/util/HashMap$Node", name := "getValue", desc := "()Ljava/lang/Object;" } : Jvm.MethodName)) ∈ lw_all := lw_g (lw_at lw_m4 41 rfl) rfl
theorem q792 : (Jvm.Cond.unhidden "java/util/HashMap$Node" "getValue" "()Ljava/lang/Object;") ∈ lw_tbl := lw_at lw_m4 42 rfl
theorem q793 : (Jvm.Cond.instanceMethod ({ cls := "java/util/HashMap$Node", name := "getValue", desc := "()Ljava/lang/Object;" } : Jvm.MethodName)) ∈ lw_all := lw_g (lw_at lw_m4 43 rfl) rfl
theorem q794 : (Jvm.Cond.publicMethod ({ cls := "java/util/HashMap$Node", name := "getValue", desc := "()Ljava/lang/Object;" } : Jvm.MethodName)) ∈ lw_tbl := lw_at lw_m4 44 rfl
theorem q795 : (Jvm.Cond.code ({ cls := "java/util/HashMap$Node", name := "getValue", desc := "()Ljava/lang/Object;" } : Jvm.MethodName) prog_45_method_3_code (1 : Nat) (Option.some (Jvm.ClassFile.FieldType.object "java/lang/Object"))) ∈ lw_all := lw_g (lw_at lw_m4 45 rfl) rfl
theorem q943 : (Jvm.Cond.instanceMethod ({ cls := "java/util/HashMap$Node", name := "<init>", desc := "(ILjava/lang/Object;Ljava/lang/Object;Ljava/util/HashMap$Node;)V" } : Jvm.MethodName)) ∈ lw_all := lw_g (lw_at lw_m4 193 rfl) rfl
theorem q944 : (Jvm.Cond.code ({ cls := "java/util/HashMap$Node", name := "<init>", desc := "(ILjava/lang/Object;Ljava/lang/Object;Ljava/util/HashMap$Node;)V" } : Jvm.MethodName) prog_45_method_1_code (5 : Nat) (Option.none : Option Jvm.ClassFile.FieldType)) ∈ lw_all := lw_g (lw_at lw_m4 194 rfl) rfl
theorem q945 : (Jvm.Cond.methodLink "java/util/HashMap$Node" (1 : Nat) ({ cls := "java/lang/Object", name := "<init>", desc := "()V" } : Jvm.MethodName)) ∈ lw_all := lw_g (lw_at lw_m4 195 rfl) rfl
theorem q950 : (Jvm.Cond.fieldLink "java/util/HashMap$Node" (7 : Nat) "java/util/HashMap$Node" "hash" "I") ∈ lw_all := lw_g (lw_at lw_m4 200 rfl) rfl
theorem q956 : (Jvm.Cond.fieldLink "java/util/HashMap$Node" (13 : Nat) "java/util/HashMap$Node" "key" "Ljava/lang/Object;") ∈ lw_all := lw_g (lw_at lw_m4 206 rfl) rfl
theorem q963 : (Jvm.Cond.fieldLink "java/util/HashMap$Node" (17 : Nat) "java/util/HashMap$Node" "value" "Ljava/lang/Object;") ∈ lw_all := lw_g (lw_at lw_m4 213 rfl) rfl
theorem q968 : (Jvm.Cond.fieldLink "java/util/HashMap$Node" (20 : Nat) "java/util/HashMap$Node" "next" "Ljava/util/HashMap$Node;") ∈ lw_all := lw_g (lw_at lw_m4 218 rfl) rfl
theorem q980 : (Jvm.Cond.soleField "java/util/HashMap$Node" "hash") ∈ lw_all := lw_g (lw_at lw_m4 230 rfl) rfl
theorem q982 : (Jvm.Cond.soleField "java/util/HashMap$Node" "key") ∈ lw_all := lw_g (lw_at lw_m4 232 rfl) rfl
theorem q984 : (Jvm.Cond.soleField "java/util/HashMap$Node" "value") ∈ lw_all := lw_g (lw_at lw_m4 234 rfl) rfl
theorem q986 : (Jvm.Cond.soleField "java/util/HashMap$Node" "next") ∈ lw_all := lw_g (lw_at lw_m4 236 rfl) rfl
theorem q993 : (Jvm.Cond.instantiable "java/util/HashMap$Node" (4 : Nat)) ∈ lw_all := lw_g (lw_at lw_m5 3 rfl) rfl
theorem q995 : (Jvm.Cond.laysFinal "java/util/HashMap$Node" "java/util/HashMap$Node" "hash" "I") ∈ lw_all := lw_g (lw_at lw_m5 5 rfl) rfl
theorem q996 : (Jvm.Cond.laysFinal "java/util/HashMap$Node" "java/util/HashMap$Node" "key" "Ljava/lang/Object;") ∈ lw_all := lw_g (lw_at lw_m5 6 rfl) rfl
theorem q997 : (Jvm.Cond.lays "java/util/HashMap$Node" "java/util/HashMap$Node" "value" "Ljava/lang/Object;") ∈ lw_all := lw_g (lw_at lw_m5 7 rfl) rfl
theorem q998 : (Jvm.Cond.lays "java/util/HashMap$Node" "java/util/HashMap$Node" "next" "Ljava/util/HashMap$Node;") ∈ lw_all := lw_g (lw_at lw_m5 8 rfl) rfl
theorem q999 : (Jvm.Cond.superclass "java/util/HashMap$Node" "java/lang/Object") ∈ lw_all := lw_g (lw_at lw_m5 9 rfl) rfl
theorem q2410 : (Jvm.Cond.castable "java/util/HashMap$Node" "java/lang/Object") ∈ lw_tbl := lw_at lw_m10 220 rfl
theorem in_J28 : ∀ w ∈ wsJ280, w ∈ lw_all := lw_in wsJ280 [995, 996, 997, 998] (by decide +kernel) (by decide +kernel)
/-! java/util/LinkedHashMap$Entry -/
set_option maxRecDepth 100000
def RJ29 : String := "java/util/LinkedHashMap$Entry"
def TJ29 : u_T := fun k => match k with
  | 0 => ("java/util/HashMap$Node", "hash", "I", true)
  | 1 => ("java/util/HashMap$Node", "key", "Ljava/lang/Object;", true)
  | 2 => ("java/util/HashMap$Node", "value", "Ljava/lang/Object;", false)
  | 3 => ("java/util/HashMap$Node", "next", "Ljava/util/HashMap$Node;", false)
  | 4 => ("java/util/LinkedHashMap$Entry", "before", "Ljava/util/LinkedHashMap$Entry;", false)
  | _ => ("java/util/LinkedHashMap$Entry", "after", "Ljava/util/LinkedHashMap$Entry;", false)
def tyJ29 : Nat → FieldType := fun k => match k with
  | 0 => .int
  | 1 => .object "java/lang/Object"
  | 2 => .object "java/lang/Object"
  | 3 => .object "java/util/HashMap$Node"
  | 4 => .object "java/util/LinkedHashMap$Entry"
  | _ => .object "java/util/LinkedHashMap$Entry"
abbrev wsJ290 : List Cond := u_ws RJ29 TJ29 6
theorem nmJ29 : ∀ a, a < 6 → ∀ b, b < 6 → a ≠ b → (TJ29 a).2.1 ≠ (TJ29 b).2.1 := by decide +kernel
theorem tyJ29_ok : ∀ k, k < 6 → parseFieldDescriptor (TJ29 k).2.2.1 = some (tyJ29 k) := by decide +kernel
abbrev cJ29_init : ByteArray := prog_50_method_1_code
def yJ29_init : MethodName := ⟨RJ29, "<init>", "(ILjava/lang/Object;Ljava/lang/Object;Ljava/util/HashMap$Node;)V"⟩
def dkwJ29_init_0 : List UInt8 := [42, 27, 44, 45, 25, 4, 183, 0, 1, 177]
abbrev dktJ29_init_0 : List UInt8 := dkwJ29_init_0 ++ []
theorem dksJ29_init_0 : cJ29_init.data.toList.drop 0 = dktJ29_init_0 := by decide +kernel
theorem dJ29_init_0 : decode cJ29_init 0 = .ok (.aload_n 0, 1) := dk_42 (dk_at dksJ29_init_0 0 rfl rfl)
theorem dJ29_init_1 : decode cJ29_init 1 = .ok (.iload_n 1, 1) := dk_27 (dk_at dksJ29_init_0 1 rfl rfl)
theorem dJ29_init_2 : decode cJ29_init 2 = .ok (.aload_n 2, 1) := dk_44 (dk_at dksJ29_init_0 2 rfl rfl)
theorem dJ29_init_3 : decode cJ29_init 3 = .ok (.aload_n 3, 1) := dk_45 (dk_at dksJ29_init_0 3 rfl rfl)
theorem dJ29_init_4 : decode cJ29_init 4 = .ok (.aload 4, 2) := dk_25 4 (dk_at dksJ29_init_0 4 rfl rfl)
theorem dJ29_init_6 : decode cJ29_init 6 = .ok (.invokespecial 1, 3) := dk_183 0 1 (dk_at dksJ29_init_0 6 rfl rfl)
theorem dJ29_init_9 : decode cJ29_init 9 = .ok (.return_, 1) := dk_177 (dk_at dksJ29_init_0 9 rfl rfl)
theorem q67 : (Jvm.Cond.initialized "java/util/LinkedHashMap$Entry") ∈ lw_all := lw_g (lw_at lw_m1 37 rfl) rfl
theorem q458 : (Jvm.Cond.sameMethod "java/util/LinkedHashMap$Entry" "java/util/HashMap$Node" "getKey" "()Ljava/lang/Object;") ∈ lw_all := lw_g (lw_at lw_m2 188 rfl) rfl
theorem q461 : (Jvm.Cond.selects "java/util/LinkedHashMap$Entry" ({ cls := "java/util/LinkedHashMap$Entry", name := "getKey", desc := "()Ljava/lang/Object;" } : Jvm.MethodName) ({ cls := "java/util/HashMap$Node", name := "getKey", desc := "()Ljava/lang/Object;" } : Jvm.MethodName)) ∈ lw_all := lw_g (lw_at lw_m2 191 rfl) rfl
theorem q557 : (Jvm.Cond.selects "java/util/LinkedHashMap$Entry" ({ cls := "java/lang/Object", name := "getClass", desc := "()Ljava/lang/Class;" } : Jvm.MethodName) ({ cls := "java/lang/Object", name := "getClass", desc := "()Ljava/lang/Class;" } : Jvm.MethodName)) ∈ lw_all := lw_g (lw_at lw_m3 47 rfl) rfl
theorem q783 : (Jvm.Cond.castable "java/util/LinkedHashMap$Entry" "java/util/Map$Entry") ∈ lw_tbl := lw_at lw_m4 33 rfl
theorem q784 : (Jvm.Cond.selects "java/util/LinkedHashMap$Entry" ({ cls := "java/util/Map$Entry", name := "getKey", desc := "()Ljava/lang/Object;" } : Jvm.MethodName) ({ cls := "java/util/HashMap$Node", name := "getKey", desc := "()Ljava/lang/Object;" } : Jvm.MethodName)) ∈ lw_all := lw_g (lw_at lw_m4 34 rfl) rfl
theorem q785 : (Jvm.Cond.unhidden "java/util/LinkedHashMap$Entry" "getKey" "()Ljava/lang/Object;") ∈ lw_tbl := lw_at lw_m4 35 rfl
theorem q798 : (Jvm.Cond.selects "java/util/LinkedHashMap$Entry" ({ cls := "java/util/Map$Entry", name := "getValue", desc := "()Ljava/lang/Object;" } : Jvm.MethodName) ({ cls := "java/util/HashMap$Node", name := "getValue", desc := "()Ljava/lang/Object;" } : Jvm.MethodName)) ∈ lw_all := lw_g (lw_at lw_m4 48 rfl) rfl
theorem q799 : (Jvm.Cond.unhidden "java/util/LinkedHashMap$Entry" "getValue" "()Ljava/lang/Object;") ∈ lw_tbl := lw_at lw_m4 49 rfl
theorem q938 : (Jvm.Cond.instantiable "java/util/LinkedHashMap$Entry" (6 : Nat)) ∈ lw_all := lw_g (lw_at lw_m4 188 rfl) rfl
theorem q940 : (Jvm.Cond.instanceMethod ({ cls := "java/util/LinkedHashMap$Entry", name := "<init>", desc := "(ILjava/lang/Object;Ljava/lang/Object;Ljava/util/HashMap$Node;)V" } : Jvm.MethodName)) ∈ lw_all := lw_g (lw_at lw_m4 190 rfl) rfl
theorem q941 : (Jvm.Cond.code ({ cls := "java/util/LinkedHashMap$Entry", name := "<init>", desc := "(ILjava/lang/Object;Ljava/lang/Object;Ljava/util/HashMap$Node;)V" } : Jvm.MethodName) prog_50_method_1_code (5 : Nat) (Option.none : Option Jvm.ClassFile.FieldType)) ∈ lw_all := lw_g (lw_at lw_m4 191 rfl) rfl
theorem q942 : (Jvm.Cond.methodLink "java/util/LinkedHashMap$Entry" (1 : Nat) ({ cls := "java/util/HashMap$Node", name := "<init>", desc := "(ILjava/lang/Object;Ljava/lang/Object;Ljava/util/HashMap$Node;)V" } : Jvm.MethodName)) ∈ lw_all := lw_g (lw_at lw_m4 192 rfl) rfl
theorem q954 : (Jvm.Cond.sameField "java/util/LinkedHashMap$Entry" "java/util/HashMap$Node" "hash" "I") ∈ lw_all := lw_g (lw_at lw_m4 204 rfl) rfl
theorem q961 : (Jvm.Cond.sameField "java/util/LinkedHashMap$Entry" "java/util/HashMap$Node" "key" "Ljava/lang/Object;") ∈ lw_all := lw_g (lw_at lw_m4 211 rfl) rfl
theorem q965 : (Jvm.Cond.sameField "java/util/LinkedHashMap$Entry" "java/util/HashMap$Node" "value" "Ljava/lang/Object;") ∈ lw_all := lw_g (lw_at lw_m4 215 rfl) rfl
theorem q975 : (Jvm.Cond.lays "java/util/LinkedHashMap$Entry" "java/util/LinkedHashMap$Entry" "before" "Ljava/util/LinkedHashMap$Entry;") ∈ lw_all := lw_g (lw_at lw_m4 225 rfl) rfl
theorem q976 : (Jvm.Cond.soleField "java/util/LinkedHashMap$Entry" "before") ∈ lw_all := lw_g (lw_at lw_m4 226 rfl) rfl
theorem q977 : (Jvm.Cond.lays "java/util/LinkedHashMap$Entry" "java/util/LinkedHashMap$Entry" "after" "Ljava/util/LinkedHashMap$Entry;") ∈ lw_all := lw_g (lw_at lw_m4 227 rfl) rfl
theorem q978 : (Jvm.Cond.soleField "java/util/LinkedHashMap$Entry" "after") ∈ lw_all := lw_g (lw_at lw_m4 228 rfl) rfl
theorem q979 : (Jvm.Cond.laysFinal "java/util/LinkedHashMap$Entry" "java/util/HashMap$Node" "hash" "I") ∈ lw_all := lw_g (lw_at lw_m4 229 rfl) rfl
theorem q981 : (Jvm.Cond.laysFinal "java/util/LinkedHashMap$Entry" "java/util/HashMap$Node" "key" "Ljava/lang/Object;") ∈ lw_all := lw_g (lw_at lw_m4 231 rfl) rfl
theorem q983 : (Jvm.Cond.lays "java/util/LinkedHashMap$Entry" "java/util/HashMap$Node" "value" "Ljava/lang/Object;") ∈ lw_all := lw_g (lw_at lw_m4 233 rfl) rfl
theorem q985 : (Jvm.Cond.lays "java/util/LinkedHashMap$Entry" "java/util/HashMap$Node" "next" "Ljava/util/HashMap$Node;") ∈ lw_all := lw_g (lw_at lw_m4 235 rfl) rfl
theorem q987 : (Jvm.Cond.superclass "java/util/LinkedHashMap$Entry" "java/util/HashMap$Node") ∈ lw_all := lw_g (lw_at lw_m4 237 rfl) rfl
theorem q2423 : (Jvm.Cond.castable "java/util/LinkedHashMap$Entry" "java/lang/Object") ∈ lw_tbl := lw_at lw_m10 233 rfl
theorem q2440 : (Jvm.Cond.castable "java/util/LinkedHashMap$Entry" "java/util/HashMap$Node") ∈ lw_tbl := lw_at lw_m11 10 rfl
theorem in_J29 : ∀ w ∈ wsJ290, w ∈ lw_all := lw_in wsJ290 [979, 981, 983, 985, 975, 977] (by decide +kernel) (by decide +kernel)
/-! jdk/internal/misc/Unsafe -/
set_option maxRecDepth 100000
def RJ30 : String := "jdk/internal/misc/Unsafe"
abbrev cJ30_getLongUnaligned : ByteArray := prog_66_method_334_code
def yJ30_getLongUnaligned : MethodName := ⟨RJ30, "getLongUnaligned", "(Ljava/lang/Object;J)J"⟩
abbrev cJ30_makeLong : ByteArray := prog_66_method_353_code
def yJ30_makeLong : MethodName := ⟨RJ30, "makeLong", "(II)J"⟩
abbrev cJ30_toUnsignedLong : ByteArray := prog_66_method_370_code
def yJ30_toUnsignedLong : MethodName := ⟨RJ30, "toUnsignedLong", "(I)J"⟩
abbrev cJ30_pickPos : ByteArray := prog_66_method_350_code
def yJ30_pickPos : MethodName := ⟨RJ30, "pickPos", "(II)I"⟩
abbrev cJ30_makeLong_2 : ByteArray := prog_66_method_352_code
def yJ30_makeLong_2 : MethodName := ⟨RJ30, "makeLong", "(SSSS)J"⟩
abbrev cJ30_toUnsignedLong_2 : ByteArray := prog_66_method_369_code
def yJ30_toUnsignedLong_2 : MethodName := ⟨RJ30, "toUnsignedLong", "(S)J"⟩
abbrev cJ30_makeLong_3 : ByteArray := prog_66_method_351_code
def yJ30_makeLong_3 : MethodName := ⟨RJ30, "makeLong", "(BBBBBBBB)J"⟩
abbrev cJ30_toUnsignedLong_3 : ByteArray := prog_66_method_368_code
def yJ30_toUnsignedLong_3 : MethodName := ⟨RJ30, "toUnsignedLong", "(B)J"⟩
abbrev cJ30_getIntUnaligned : ByteArray := prog_66_method_336_code
def yJ30_getIntUnaligned : MethodName := ⟨RJ30, "getIntUnaligned", "(Ljava/lang/Object;J)I"⟩
abbrev cJ30_makeInt : ByteArray := prog_66_method_354_code
def yJ30_makeInt : MethodName := ⟨RJ30, "makeInt", "(SS)I"⟩
abbrev cJ30_toUnsignedInt : ByteArray := prog_66_method_367_code
def yJ30_toUnsignedInt : MethodName := ⟨RJ30, "toUnsignedInt", "(S)I"⟩
abbrev cJ30_makeInt_2 : ByteArray := prog_66_method_355_code
def yJ30_makeInt_2 : MethodName := ⟨RJ30, "makeInt", "(BBBB)I"⟩
abbrev cJ30_toUnsignedInt_2 : ByteArray := prog_66_method_366_code
def yJ30_toUnsignedInt_2 : MethodName := ⟨RJ30, "toUnsignedInt", "(B)I"⟩
theorem q68 : (Jvm.Cond.initialized "jdk/internal/misc/Unsafe") ∈ lw_all := lw_g (lw_at lw_m1 38 rfl) rfl
theorem q562 : (Jvm.Cond.selects "jdk/internal/misc/Unsafe" ({ cls := "java/lang/Object", name := "getClass", desc := "()Ljava/lang/Class;" } : Jvm.MethodName) ({ cls := "java/lang/Object", name := "getClass", desc := "()Ljava/lang/Class;" } : Jvm.MethodName)) ∈ lw_all := lw_g (lw_at lw_m3 52 rfl) rfl
theorem q901 : (Jvm.Cond.selects "jdk/internal/misc/Unsafe" ({ cls := "java/lang/Object", name := "hashCode", desc := "()I" } : Jvm.MethodName) ({ cls := "java/lang/Object", name := "hashCode", desc := "()I" } : Jvm.MethodName)) ∈ lw_all := lw_g (lw_at lw_m4 151 rfl) rfl
theorem q1057 : (Jvm.Cond.laysStatic "jdk/internal/misc/Unsafe" "ARRAY_BYTE_BASE_OFFSET" "I") ∈ lw_tbl := lw_at lw_m5 67 rfl
theorem q1068 : (Jvm.Cond.instanceMethod ({ cls := "jdk/internal/misc/Unsafe", name := "getLongUnaligned", desc := "(Ljava/lang/Object;J)J" } : Jvm.MethodName)) ∈ lw_all := lw_g (lw_at lw_m5 78 rfl) rfl
theorem q1069 : (Jvm.Cond.selects "jdk/internal/misc/Unsafe" ({ cls := "jdk/internal/misc/Unsafe", name := "getLongUnaligned", desc := "(Ljava/lang/Object;J)J" } : Jvm.MethodName) ({ cls := "jdk/internal/misc/Unsafe", name := "getLongUnaligned", desc := "(Ljava/lang/Object;J)J" } : Jvm.MethodName)) ∈ lw_all := lw_g (lw_at lw_m5 79 rfl) rfl
theorem q1070 : (Jvm.Cond.code ({ cls := "jdk/internal/misc/Unsafe", name := "getLongUnaligned", desc := "(Ljava/lang/Object;J)J" } : Jvm.MethodName) prog_66_method_334_code (4 : Nat) (Option.some Jvm.ClassFile.FieldType.long)) ∈ lw_all := lw_g (lw_at lw_m5 80 rfl) rfl
theorem q1071 : (Jvm.Cond.constantLong "jdk/internal/misc/Unsafe" (696 : Nat) (7 : Int64)) ∈ lw_all := lw_g (lw_at lw_m5 81 rfl) rfl
theorem q1072 : (Jvm.Cond.methodLink "jdk/internal/misc/Unsafe" (27 : Nat) ({ cls := "jdk/internal/misc/Unsafe", name := "getLong", desc := "(Ljava/lang/Object;J)J" } : Jvm.MethodName)) ∈ lw_all := lw_g (lw_at lw_m5 82 rfl) rfl
theorem q1073 : (Jvm.Cond.instanceMethod ({ cls := "jdk/internal/misc/Unsafe", name := "getLong", desc := "(Ljava/lang/Object;J)J" } : Jvm.MethodName)) ∈ lw_all := lw_g (lw_at lw_m5 83 rfl) rfl
theorem q1074 : (Jvm.Cond.selects "jdk/internal/misc/Unsafe" ({ cls := "jdk/internal/misc/Unsafe", name := "getLong", desc := "(Ljava/lang/Object;J)J" } : Jvm.MethodName) ({ cls := "jdk/internal/misc/Unsafe", name := "getLong", desc := "(Ljava/lang/Object;J)J" } : Jvm.MethodName)) ∈ lw_all := lw_g (lw_at lw_m5 84 rfl) rfl
theorem q1075 : (Jvm.Cond.native ({ cls := "jdk/internal/misc/Unsafe", name := "getLong", desc := "(Ljava/lang/Object;J)J" } : Jvm.MethodName)) ∈ lw_all := lw_g (lw_at lw_m5 85 rfl) rfl
theorem q1076 : (Jvm.Cond.constantLong "jdk/internal/misc/Unsafe" (349 : Nat) (3 : Int64)) ∈ lw_all := lw_g (lw_at lw_m5 86 rfl) rfl
theorem q1077 : (Jvm.Cond.methodLink "jdk/internal/misc/Unsafe" (17 : Nat) ({ cls := "jdk/internal/misc/Unsafe", name := "getInt", desc := "(Ljava/lang/Object;J)I" } : Jvm.MethodName)) ∈ lw_all := lw_g (lw_at lw_m5 87 rfl) rfl
theorem q1078 : (Jvm.Cond.instanceMethod ({ cls := "jdk/internal/misc/Unsafe", name := "getInt", desc := "(Ljava/lang/Object;J)I" } : Jvm.MethodName)) ∈ lw_all := lw_g (lw_at lw_m5 88 rfl) rfl
theorem q1079 : (Jvm.Cond.selects "jdk/internal/misc/Unsafe" ({ cls := "jdk/internal/misc/Unsafe", name := "getInt", desc := "(Ljava/lang/Object;J)I" } : Jvm.MethodName) ({ cls := "jdk/internal/misc/Unsafe", name := "getInt", desc := "(Ljava/lang/Object;J)I" } : Jvm.MethodName)) ∈ lw_all := lw_g (lw_at lw_m5 89 rfl) rfl
theorem q1080 : (Jvm.Cond.native ({ cls := "jdk/internal/misc/Unsafe", name := "getInt", desc := "(Ljava/lang/Object;J)I" } : Jvm.MethodName)) ∈ lw_all := lw_g (lw_at lw_m5 90 rfl) rfl
theorem q1081 : (Jvm.Cond.constantLong "jdk/internal/misc/Unsafe" (205 : Nat) (4 : Int64)) ∈ lw_all := lw_g (lw_at lw_m5 91 rfl) rfl
theorem q1082 : (Jvm.Cond.methodLink "jdk/internal/misc/Unsafe" (698 : Nat) ({ cls := "jdk/internal/misc/Unsafe", name := "makeLong", desc := "(II)J" } : Jvm.MethodName)) ∈ lw_all := lw_g (lw_at lw_m5 92 rfl) rfl
theorem q1083 : (Jvm.Cond.static ({ cls := "jdk/internal/misc/Unsafe", name := "makeLong", desc := "(II)J" } : Jvm.MethodName)) ∈ lw_all := lw_g (lw_at lw_m5 93 rfl) rfl
theorem q1084 : (Jvm.Cond.code ({ cls := "jdk/internal/misc/Unsafe", name := "makeLong", desc := "(II)J" } : Jvm.MethodName) prog_66_method_353_code (2 : Nat) (Option.some Jvm.ClassFile.FieldType.long)) ∈ lw_all := lw_g (lw_at lw_m5 94 rfl) rfl
theorem q1085 : (Jvm.Cond.methodLink "jdk/internal/misc/Unsafe" (791 : Nat) ({ cls := "jdk/internal/misc/Unsafe", name := "toUnsignedLong", desc := "(I)J" } : Jvm.MethodName)) ∈ lw_all := lw_g (lw_at lw_m5 95 rfl) rfl
theorem q1086 : (Jvm.Cond.static ({ cls := "jdk/internal/misc/Unsafe", name := "toUnsignedLong", desc := "(I)J" } : Jvm.MethodName)) ∈ lw_all := lw_g (lw_at lw_m5 96 rfl) rfl
theorem q1087 : (Jvm.Cond.code ({ cls := "jdk/internal/misc/Unsafe", name := "toUnsignedLong", desc := "(I)J" } : Jvm.MethodName) prog_66_method_370_code (1 : Nat) (Option.some Jvm.ClassFile.FieldType.long)) ∈ lw_all := lw_g (lw_at lw_m5 97 rfl) rfl
theorem q1088 : (Jvm.Cond.constantLong "jdk/internal/misc/Unsafe" (812 : Nat) (4294967295 : Int64)) ∈ lw_all := lw_g (lw_at lw_m5 98 rfl) rfl
theorem q1089 : (Jvm.Cond.methodLink "jdk/internal/misc/Unsafe" (784 : Nat) ({ cls := "jdk/internal/misc/Unsafe", name := "pickPos", desc := "(II)I" } : Jvm.MethodName)) ∈ lw_all := lw_g (lw_at lw_m5 99 rfl) rfl
theorem q1090 : (Jvm.Cond.static ({ cls := "jdk/internal/misc/Unsafe", name := "pickPos", desc := "(II)I" } : Jvm.MethodName)) ∈ lw_all := lw_g (lw_at lw_m5 100 rfl) rfl
theorem q1091 : (Jvm.Cond.code ({ cls := "jdk/internal/misc/Unsafe", name := "pickPos", desc := "(II)I" } : Jvm.MethodName) prog_66_method_350_code (2 : Nat) (Option.some Jvm.ClassFile.FieldType.int)) ∈ lw_all := lw_g (lw_at lw_m5 101 rfl) rfl
theorem q1092 : (Jvm.Cond.fieldLink "jdk/internal/misc/Unsafe" (351 : Nat) "jdk/internal/misc/UnsafeConstants" "BIG_ENDIAN" "Z") ∈ lw_all := lw_g (lw_at lw_m5 102 rfl) rfl
theorem q1094 : (Jvm.Cond.methodLink "jdk/internal/misc/Unsafe" (47 : Nat) ({ cls := "jdk/internal/misc/Unsafe", name := "getShort", desc := "(Ljava/lang/Object;J)S" } : Jvm.MethodName)) ∈ lw_all := lw_g (lw_at lw_m5 104 rfl) rfl
theorem q1095 : (Jvm.Cond.instanceMethod ({ cls := "jdk/internal/misc/Unsafe", name := "getShort", desc := "(Ljava/lang/Object;J)S" } : Jvm.MethodName)) ∈ lw_all := lw_g (lw_at lw_m5 105 rfl) rfl
theorem q1096 : (Jvm.Cond.selects "jdk/internal/misc/Unsafe" ({ cls := "jdk/internal/misc/Unsafe", name := "getShort", desc := "(Ljava/lang/Object;J)S" } : Jvm.MethodName) ({ cls := "jdk/internal/misc/Unsafe", name := "getShort", desc := "(Ljava/lang/Object;J)S" } : Jvm.MethodName)) ∈ lw_all := lw_g (lw_at lw_m5 106 rfl) rfl
theorem q1097 : (Jvm.Cond.native ({ cls := "jdk/internal/misc/Unsafe", name := "getShort", desc := "(Ljava/lang/Object;J)S" } : Jvm.MethodName)) ∈ lw_all := lw_g (lw_at lw_m5 107 rfl) rfl
theorem q1098 : (Jvm.Cond.constantLong "jdk/internal/misc/Unsafe" (203 : Nat) (2 : Int64)) ∈ lw_all := lw_g (lw_at lw_m5 108 rfl) rfl
theorem q1099 : (Jvm.Cond.constantLong "jdk/internal/misc/Unsafe" (702 : Nat) (6 : Int64)) ∈ lw_all := lw_g (lw_at lw_m5 109 rfl) rfl
theorem q1100 : (Jvm.Cond.methodLink "jdk/internal/misc/Unsafe" (704 : Nat) ({ cls := "jdk/internal/misc/Unsafe", name := "makeLong", desc := "(SSSS)J" } : Jvm.MethodName)) ∈ lw_all := lw_g (lw_at lw_m5 110 rfl) rfl
theorem q1101 : (Jvm.Cond.static ({ cls := "jdk/internal/misc/Unsafe", name := "makeLong", desc := "(SSSS)J" } : Jvm.MethodName)) ∈ lw_all := lw_g (lw_at lw_m5 111 rfl) rfl
theorem q1102 : (Jvm.Cond.code ({ cls := "jdk/internal/misc/Unsafe", name := "makeLong", desc := "(SSSS)J" } : Jvm.MethodName) prog_66_method_352_code (4 : Nat) (Option.some Jvm.ClassFile.FieldType.long)) ∈ lw_all := lw_g (lw_at lw_m5 112 rfl) rfl
theorem q1103 : (Jvm.Cond.methodLink "jdk/internal/misc/Unsafe" (788 : Nat) ({ cls := "jdk/internal/misc/Unsafe", name := "toUnsignedLong", desc := "(S)J" } : Jvm.MethodName)) ∈ lw_all := lw_g (lw_at lw_m5 113 rfl) rfl
theorem q1104 : (Jvm.Cond.static ({ cls := "jdk/internal/misc/Unsafe", name := "toUnsignedLong", desc := "(S)J" } : Jvm.MethodName)) ∈ lw_all := lw_g (lw_at lw_m5 114 rfl) rfl
theorem q1105 : (Jvm.Cond.code ({ cls := "jdk/internal/misc/Unsafe", name := "toUnsignedLong", desc := "(S)J" } : Jvm.MethodName) prog_66_method_369_code (1 : Nat) (Option.some Jvm.ClassFile.FieldType.long)) ∈ lw_all := lw_g (lw_at lw_m5 115 rfl) rfl
theorem q1106 : (Jvm.Cond.constantLong "jdk/internal/misc/Unsafe" (810 : Nat) (65535 : Int64)) ∈ lw_all := lw_g (lw_at lw_m5 116 rfl) rfl
theorem q1107 : (Jvm.Cond.methodLink "jdk/internal/misc/Unsafe" (39 : Nat) ({ cls := "jdk/internal/misc/Unsafe", name := "getByte", desc := "(Ljava/lang/Object;J)B" } : Jvm.MethodName)) ∈ lw_all := lw_g (lw_at lw_m5 117 rfl) rfl
theorem q1108 : (Jvm.Cond.instanceMethod ({ cls := "jdk/internal/misc/Unsafe", name := "getByte", desc := "(Ljava/lang/Object;J)B" } : Jvm.MethodName)) ∈ lw_all := lw_g (lw_at lw_m5 118 rfl) rfl
theorem q1109 : (Jvm.Cond.selects "jdk/internal/misc/Unsafe" ({ cls := "jdk/internal/misc/Unsafe", name := "getByte", desc := "(Ljava/lang/Object;J)B" } : Jvm.MethodName) ({ cls := "jdk/internal/misc/Unsafe", name := "getByte", desc := "(Ljava/lang/Object;J)B" } : Jvm.MethodName)) ∈ lw_all := lw_g (lw_at lw_m5 119 rfl) rfl
theorem q1110 : (Jvm.Cond.native ({ cls := "jdk/internal/misc/Unsafe", name := "getByte", desc := "(Ljava/lang/Object;J)B" } : Jvm.MethodName)) ∈ lw_all := lw_g (lw_at lw_m5 120 rfl) rfl
theorem q1111 : (Jvm.Cond.constantLong "jdk/internal/misc/Unsafe" (707 : Nat) (5 : Int64)) ∈ lw_all := lw_g (lw_at lw_m5 121 rfl) rfl
theorem q1112 : (Jvm.Cond.methodLink "jdk/internal/misc/Unsafe" (709 : Nat) ({ cls := "jdk/internal/misc/Unsafe", name := "makeLong", desc := "(BBBBBBBB)J" } : Jvm.MethodName)) ∈ lw_all := lw_g (lw_at lw_m5 122 rfl) rfl
theorem q1113 : (Jvm.Cond.static ({ cls := "jdk/internal/misc/Unsafe", name := "makeLong", desc := "(BBBBBBBB)J" } : Jvm.MethodName)) ∈ lw_all := lw_g (lw_at lw_m5 123 rfl) rfl
theorem q1114 : (Jvm.Cond.code ({ cls := "jdk/internal/misc/Unsafe", name := "makeLong", desc := "(BBBBBBBB)J" } : Jvm.MethodName) prog_66_method_351_code (8 : Nat) (Option.some Jvm.ClassFile.FieldType.long)) ∈ lw_all := lw_g (lw_at lw_m5 124 rfl) rfl
theorem q1115 : (Jvm.Cond.methodLink "jdk/internal/misc/Unsafe" (781 : Nat) ({ cls := "jdk/internal/misc/Unsafe", name := "toUnsignedLong", desc := "(B)J" } : Jvm.MethodName)) ∈ lw_all := lw_g (lw_at lw_m5 125 rfl) rfl
theorem q1116 : (Jvm.Cond.static ({ cls := "jdk/internal/misc/Unsafe", name := "toUnsignedLong", desc := "(B)J" } : Jvm.MethodName)) ∈ lw_all := lw_g (lw_at lw_m5 126 rfl) rfl
theorem q1117 : (Jvm.Cond.code ({ cls := "jdk/internal/misc/Unsafe", name := "toUnsignedLong", desc := "(B)J" } : Jvm.MethodName) prog_66_method_368_code (1 : Nat) (Option.some Jvm.ClassFile.FieldType.long)) ∈ lw_all := lw_g (lw_at lw_m5 127 rfl) rfl
theorem q1118 : (Jvm.Cond.constantLong "jdk/internal/misc/Unsafe" (808 : Nat) (255 : Int64)) ∈ lw_all := lw_g (lw_at lw_m5 128 rfl) rfl
theorem q1139 : (Jvm.Cond.instanceMethod ({ cls := "jdk/internal/misc/Unsafe", name := "getIntUnaligned", desc := "(Ljava/lang/Object;J)I" } : Jvm.MethodName)) ∈ lw_all := lw_g (lw_at lw_m5 149 rfl) rfl
theorem q1140 : (Jvm.Cond.selects "jdk/internal/misc/Unsafe" ({ cls := "jdk/internal/misc/Unsafe", name := "getIntUnaligned", desc := "(Ljava/lang/Object;J)I" } : Jvm.MethodName) ({ cls := "jdk/internal/misc/Unsafe", name := "getIntUnaligned", desc := "(Ljava/lang/Object;J)I" } : Jvm.MethodName)) ∈ lw_all := lw_g (lw_at lw_m5 150 rfl) rfl
theorem q1141 : (Jvm.Cond.code ({ cls := "jdk/internal/misc/Unsafe", name := "getIntUnaligned", desc := "(Ljava/lang/Object;J)I" } : Jvm.MethodName) prog_66_method_336_code (4 : Nat) (Option.some Jvm.ClassFile.FieldType.int)) ∈ lw_all := lw_g (lw_at lw_m5 151 rfl) rfl
theorem q1142 : (Jvm.Cond.methodLink "jdk/internal/misc/Unsafe" (719 : Nat) ({ cls := "jdk/internal/misc/Unsafe", name := "makeInt", desc := "(SS)I" } : Jvm.MethodName)) ∈ lw_all := lw_g (lw_at lw_m5 152 rfl) rfl
theorem q1143 : (Jvm.Cond.static ({ cls := "jdk/internal/misc/Unsafe", name := "makeInt", desc := "(SS)I" } : Jvm.MethodName)) ∈ lw_all := lw_g (lw_at lw_m5 153 rfl) rfl
theorem q1144 : (Jvm.Cond.code ({ cls := "jdk/internal/misc/Unsafe", name := "makeInt", desc := "(SS)I" } : Jvm.MethodName) prog_66_method_354_code (2 : Nat) (Option.some Jvm.ClassFile.FieldType.int)) ∈ lw_all := lw_g (lw_at lw_m5 154 rfl) rfl
theorem q1145 : (Jvm.Cond.methodLink "jdk/internal/misc/Unsafe" (792 : Nat) ({ cls := "jdk/internal/misc/Unsafe", name := "toUnsignedInt", desc := "(S)I" } : Jvm.MethodName)) ∈ lw_all := lw_g (lw_at lw_m5 155 rfl) rfl
theorem q1146 : (Jvm.Cond.static ({ cls := "jdk/internal/misc/Unsafe", name := "toUnsignedInt", desc := "(S)I" } : Jvm.MethodName)) ∈ lw_all := lw_g (lw_at lw_m5 156 rfl) rfl
theorem q1147 : (Jvm.Cond.code ({ cls := "jdk/internal/misc/Unsafe", name := "toUnsignedInt", desc := "(S)I" } : Jvm.MethodName) prog_66_method_367_code (1 : Nat) (Option.some Jvm.ClassFile.FieldType.int)) ∈ lw_all := lw_g (lw_at lw_m5 157 rfl) rfl
theorem q1148 : (Jvm.Cond.constant "jdk/internal/misc/Unsafe" (374 : Nat) (65535 : Int32)) ∈ lw_all := lw_g (lw_at lw_m5 158 rfl) rfl
theorem q1149 : (Jvm.Cond.methodLink "jdk/internal/misc/Unsafe" (723 : Nat) ({ cls := "jdk/internal/misc/Unsafe", name := "makeInt", desc := "(BBBB)I" } : Jvm.MethodName)) ∈ lw_all := lw_g (lw_at lw_m5 159 rfl) rfl
theorem q1150 : (Jvm.Cond.static ({ cls := "jdk/internal/misc/Unsafe", name := "makeInt", desc := "(BBBB)I" } : Jvm.MethodName)) ∈ lw_all := lw_g (lw_at lw_m5 160 rfl) rfl
theorem q1151 : (Jvm.Cond.code ({ cls := "jdk/internal/misc/Unsafe", name := "makeInt", desc := "(BBBB)I" } : Jvm.MethodName) prog_66_method_355_code (4 : Nat) (Option.some Jvm.ClassFile.FieldType.int)) ∈ lw_all := lw_g (lw_at lw_m5 161 rfl) rfl
theorem q1152 : (Jvm.Cond.methodLink "jdk/internal/misc/Unsafe" (796 : Nat) ({ cls := "jdk/internal/misc/Unsafe", name := "toUnsignedInt", desc := "(B)I" } : Jvm.MethodName)) ∈ lw_all := lw_g (lw_at lw_m5 162 rfl) rfl
theorem q1153 : (Jvm.Cond.static ({ cls := "jdk/internal/misc/Unsafe", name := "toUnsignedInt", desc := "(B)I" } : Jvm.MethodName)) ∈ lw_all := lw_g (lw_at lw_m5 163 rfl) rfl
theorem q1154 : (Jvm.Cond.code ({ cls := "jdk/internal/misc/Unsafe", name := "toUnsignedInt", desc := "(B)I" } : Jvm.MethodName) prog_66_method_366_code (1 : Nat) (Option.some Jvm.ClassFile.FieldType.int)) ∈ lw_all := lw_g (lw_at lw_m5 164 rfl) rfl
theorem q1281 : (Jvm.Cond.selects "jdk/internal/misc/Unsafe" ({ cls := "java/lang/Object", name := "equals", desc := "(Ljava/lang/Object;)Z" } : Jvm.MethodName) ({ cls := "java/lang/Object", name := "equals", desc := "(Ljava/lang/Object;)Z" } : Jvm.MethodName)) ∈ lw_all := lw_g (lw_at lw_m6 51 rfl) rfl
theorem q2424 : (Jvm.Cond.castable "jdk/internal/misc/Unsafe" "java/lang/Object") ∈ lw_tbl := lw_at lw_m10 234 rfl
/-! java/lang/Long -/
set_option maxRecDepth 100000
def RJ31 : String := "java/lang/Long"
abbrev cJ31_numberOfLeadingZeros : ByteArray := prog_20_method_48_code
def yJ31_numberOfLeadingZeros : MethodName := ⟨RJ31, "numberOfLeadingZeros", "(J)I"⟩
abbrev cJ31_numberOfTrailingZeros : ByteArray := prog_20_method_49_code
def yJ31_numberOfTrailingZeros : MethodName := ⟨RJ31, "numberOfTrailingZeros", "(J)I"⟩
theorem q70 : (Jvm.Cond.initialized "java/lang/Long") ∈ lw_all := lw_g (lw_at lw_m1 40 rfl) rfl
theorem q1122 : (Jvm.Cond.static ({ cls := "java/lang/Long", name := "numberOfLeadingZeros", desc := "(J)I" } : Jvm.MethodName)) ∈ lw_all := lw_g (lw_at lw_m5 132 rfl) rfl
theorem q1123 : (Jvm.Cond.code ({ cls := "java/lang/Long", name := "numberOfLeadingZeros", desc := "(J)I" } : Jvm.MethodName) prog_20_method_48_code (3 : Nat) (Option.some Jvm.ClassFile.FieldType.int)) ∈ lw_all := lw_g (lw_at lw_m5 133 rfl) rfl
theorem q1124 : (Jvm.Cond.methodLink "java/lang/Long" (308 : Nat) ({ cls := "java/lang/Integer", name := "numberOfLeadingZeros", desc := "(I)I" } : Jvm.MethodName)) ∈ lw_all := lw_g (lw_at lw_m5 134 rfl) rfl
theorem q1131 : (Jvm.Cond.static ({ cls := "java/lang/Long", name := "numberOfTrailingZeros", desc := "(J)I" } : Jvm.MethodName)) ∈ lw_all := lw_g (lw_at lw_m5 141 rfl) rfl
theorem q1132 : (Jvm.Cond.code ({ cls := "java/lang/Long", name := "numberOfTrailingZeros", desc := "(J)I" } : Jvm.MethodName) prog_20_method_49_code (3 : Nat) (Option.some Jvm.ClassFile.FieldType.int)) ∈ lw_all := lw_g (lw_at lw_m5 142 rfl) rfl
theorem q1133 : (Jvm.Cond.methodLink "java/lang/Long" (311 : Nat) ({ cls := "java/lang/Integer", name := "numberOfTrailingZeros", desc := "(I)I" } : Jvm.MethodName)) ∈ lw_all := lw_g (lw_at lw_m5 143 rfl) rfl
/-! jdk/internal/util/Preconditions -/
set_option maxRecDepth 100000
def RJ32 : String := "jdk/internal/util/Preconditions"
abbrev cJ32_checkFromToIndex : ByteArray := prog_69_method_12_code
def yJ32_checkFromToIndex : MethodName := ⟨RJ32, "checkFromToIndex", "(IIILjava/util/function/BiFunction;)I"⟩
abbrev cJ32_checkIndex : ByteArray := prog_69_method_11_code
def yJ32_checkIndex : MethodName := ⟨RJ32, "checkIndex", "(IILjava/util/function/BiFunction;)I"⟩
def dkwJ32_checkIndex_0 : List UInt8 := [26, 155, 0, 8, 26, 27, 161, 0, 10, 44, 26, 27, 184, 0, 95, 191, 26, 172]
abbrev dktJ32_checkIndex_0 : List UInt8 := dkwJ32_checkIndex_0 ++ []
theorem dksJ32_checkIndex_0 : cJ32_checkIndex.data.toList.drop 0 = dktJ32_checkIndex_0 := by decide +kernel
theorem dJ32_checkIndex_0 : decode cJ32_checkIndex 0 = .ok (.iload_n 0, 1) := dk_26 (dk_at dksJ32_checkIndex_0 0 rfl rfl)
theorem dJ32_checkIndex_1 : decode cJ32_checkIndex 1 = .ok (.ifCond .lt 8, 3) := dk_155 0 8 (dk_at dksJ32_checkIndex_0 1 rfl rfl)
theorem dJ32_checkIndex_4 : decode cJ32_checkIndex 4 = .ok (.iload_n 0, 1) := dk_26 (dk_at dksJ32_checkIndex_0 4 rfl rfl)
theorem dJ32_checkIndex_5 : decode cJ32_checkIndex 5 = .ok (.iload_n 1, 1) := dk_27 (dk_at dksJ32_checkIndex_0 5 rfl rfl)
theorem dJ32_checkIndex_6 : decode cJ32_checkIndex 6 = .ok (.if_icmp .lt 10, 3) := dk_161 0 10 (dk_at dksJ32_checkIndex_0 6 rfl rfl)
theorem dJ32_checkIndex_9 : decode cJ32_checkIndex 9 = .ok (.aload_n 2, 1) := dk_44 (dk_at dksJ32_checkIndex_0 9 rfl rfl)
theorem dJ32_checkIndex_10 : decode cJ32_checkIndex 10 = .ok (.iload_n 0, 1) := dk_26 (dk_at dksJ32_checkIndex_0 10 rfl rfl)
theorem dJ32_checkIndex_11 : decode cJ32_checkIndex 11 = .ok (.iload_n 1, 1) := dk_27 (dk_at dksJ32_checkIndex_0 11 rfl rfl)
theorem dJ32_checkIndex_12 : decode cJ32_checkIndex 12 = .ok (.invokestatic 95, 3) := dk_184 0 95 (dk_at dksJ32_checkIndex_0 12 rfl rfl)
theorem dJ32_checkIndex_15 : decode cJ32_checkIndex 15 = .ok (.athrow, 1) := dk_191 (dk_at dksJ32_checkIndex_0 15 rfl rfl)
theorem dJ32_checkIndex_16 : decode cJ32_checkIndex 16 = .ok (.iload_n 0, 1) := dk_26 (dk_at dksJ32_checkIndex_0 16 rfl rfl)
theorem dJ32_checkIndex_17 : decode cJ32_checkIndex 17 = .ok (.ireturn, 1) := dk_172 (dk_at dksJ32_checkIndex_0 17 rfl rfl)
abbrev cJ32_checkFromIndexSize : ByteArray := prog_69_method_13_code
def yJ32_checkFromIndexSize : MethodName := ⟨RJ32, "checkFromIndexSize", "(IIILjava/util/function/BiFunction;)I"⟩
theorem q71 : (Jvm.Cond.initialized "jdk/internal/util/Preconditions") ∈ lw_all := lw_g (lw_at lw_m1 41 rfl) rfl
theorem q1212 : (Jvm.Cond.laysStatic "jdk/internal/util/Preconditions" "SIOOBE_FORMATTER" "Ljava/util/function/BiFunction;") ∈ lw_tbl := lw_at lw_m5 222 rfl
theorem q1214 : (Jvm.Cond.static ({ cls := "jdk/internal/util/Preconditions", name := "checkFromToIndex", desc := "(IIILjava/util/function/BiFunction;)I" } : Jvm.MethodName)) ∈ lw_all := lw_g (lw_at lw_m5 224 rfl) rfl
theorem q1215 : (Jvm.Cond.code ({ cls := "jdk/internal/util/Preconditions", name := "checkFromToIndex", desc := "(IIILjava/util/function/BiFunction;)I" } : Jvm.MethodName) prog_69_method_12_code (4 : Nat) (Option.some Jvm.ClassFile.FieldType.int)) ∈ lw_all := lw_g (lw_at lw_m5 225 rfl) rfl
theorem q1402 : (Jvm.Cond.static ({ cls := "jdk/internal/util/Preconditions", name := "checkIndex", desc := "(IILjava/util/function/BiFunction;)I" } : Jvm.MethodName)) ∈ lw_all := lw_g (lw_at lw_m6 172 rfl) rfl
theorem q1403 : (Jvm.Cond.code ({ cls := "jdk/internal/util/Preconditions", name := "checkIndex", desc := "(IILjava/util/function/BiFunction;)I" } : Jvm.MethodName) prog_69_method_11_code (3 : Nat) (Option.some Jvm.ClassFile.FieldType.int)) ∈ lw_all := lw_g (lw_at lw_m6 173 rfl) rfl
theorem q1591 : (Jvm.Cond.static ({ cls := "jdk/internal/util/Preconditions", name := "checkFromIndexSize", desc := "(IIILjava/util/function/BiFunction;)I" } : Jvm.MethodName)) ∈ lw_all := lw_g (lw_at lw_m7 121 rfl) rfl
theorem q1592 : (Jvm.Cond.code ({ cls := "jdk/internal/util/Preconditions", name := "checkFromIndexSize", desc := "(IIILjava/util/function/BiFunction;)I" } : Jvm.MethodName) prog_69_method_13_code (4 : Nat) (Option.some Jvm.ClassFile.FieldType.int)) ∈ lw_all := lw_g (lw_at lw_m7 122 rfl) rfl
/-! java/util/HashMap$TreeNode -/
set_option maxRecDepth 100000
def RJ33 : String := "java/util/HashMap$TreeNode"
def TJ33 : u_T := fun k => match k with
  | 0 => ("java/util/HashMap$Node", "hash", "I", true)
  | 1 => ("java/util/HashMap$Node", "key", "Ljava/lang/Object;", true)
  | 2 => ("java/util/HashMap$Node", "value", "Ljava/lang/Object;", false)
  | 3 => ("java/util/HashMap$Node", "next", "Ljava/util/HashMap$Node;", false)
  | 4 => ("java/util/LinkedHashMap$Entry", "before", "Ljava/util/LinkedHashMap$Entry;", false)
  | 5 => ("java/util/LinkedHashMap$Entry", "after", "Ljava/util/LinkedHashMap$Entry;", false)
  | 6 => ("java/util/HashMap$TreeNode", "parent", "Ljava/util/HashMap$TreeNode;", false)
  | 7 => ("java/util/HashMap$TreeNode", "left", "Ljava/util/HashMap$TreeNode;", false)
  | 8 => ("java/util/HashMap$TreeNode", "right", "Ljava/util/HashMap$TreeNode;", false)
  | 9 => ("java/util/HashMap$TreeNode", "prev", "Ljava/util/HashMap$TreeNode;", false)
  | _ => ("java/util/HashMap$TreeNode", "red", "Z", false)
def tyJ33 : Nat → FieldType := fun k => match k with
  | 0 => .int
  | 1 => .object "java/lang/Object"
  | 2 => .object "java/lang/Object"
  | 3 => .object "java/util/HashMap$Node"
  | 4 => .object "java/util/LinkedHashMap$Entry"
  | 5 => .object "java/util/LinkedHashMap$Entry"
  | 6 => .object "java/util/HashMap$TreeNode"
  | 7 => .object "java/util/HashMap$TreeNode"
  | 8 => .object "java/util/HashMap$TreeNode"
  | 9 => .object "java/util/HashMap$TreeNode"
  | _ => .boolean
abbrev wsJ330 : List Cond := u_ws RJ33 TJ33 11
theorem nmJ33 : ∀ a, a < 11 → ∀ b, b < 11 → a ≠ b → (TJ33 a).2.1 ≠ (TJ33 b).2.1 := by decide +kernel
theorem tyJ33_ok : ∀ k, k < 11 → parseFieldDescriptor (TJ33 k).2.2.1 = some (tyJ33 k) := by decide +kernel
abbrev cJ33_split : ByteArray := prog_46_method_11_code
def yJ33_split : MethodName := ⟨RJ33, "split", "(Ljava/util/HashMap;[Ljava/util/HashMap$Node;II)V"⟩
abbrev cJ33_untreeify : ByteArray := prog_46_method_8_code
def yJ33_untreeify : MethodName := ⟨RJ33, "untreeify", "(Ljava/util/HashMap;)Ljava/util/HashMap$Node;"⟩
def dkwJ33_untreeify_2 : List UInt8 := [58, 4, 167, 255, 216, 44, 176]
abbrev dktJ33_untreeify_2 : List UInt8 := dkwJ33_untreeify_2 ++ []
def dkwJ33_untreeify_1 : List UInt8 := [199, 0, 9, 25, 5, 77, 167, 0, 9, 45, 25, 5, 181, 0, 112, 25, 5, 78, 25, 4, 180, 0, 112]
abbrev dktJ33_untreeify_1 : List UInt8 := dkwJ33_untreeify_1 ++ dktJ33_untreeify_2
def dkwJ33_untreeify_0 : List UInt8 := [1, 77, 1, 78, 42, 58, 4, 25, 4, 198, 0, 41, 43, 25, 4, 1, 182, 0, 108, 58, 5, 45]
abbrev dktJ33_untreeify_0 : List UInt8 := dkwJ33_untreeify_0 ++ dktJ33_untreeify_1
theorem dksJ33_untreeify_0 : cJ33_untreeify.data.toList.drop 0 = dktJ33_untreeify_0 := by decide +kernel
theorem dksJ33_untreeify_1 : cJ33_untreeify.data.toList.drop 22 = dktJ33_untreeify_1 := dk_seg dksJ33_untreeify_0 22 rfl rfl
theorem dksJ33_untreeify_2 : cJ33_untreeify.data.toList.drop 45 = dktJ33_untreeify_2 := dk_seg dksJ33_untreeify_1 23 rfl rfl
theorem dJ33_untreeify_0 : decode cJ33_untreeify 0 = .ok (.aconst_null, 1) := dk_1 (dk_at dksJ33_untreeify_0 0 rfl rfl)
theorem dJ33_untreeify_1 : decode cJ33_untreeify 1 = .ok (.astore_n 2, 1) := dk_77 (dk_at dksJ33_untreeify_0 1 rfl rfl)
theorem dJ33_untreeify_2 : decode cJ33_untreeify 2 = .ok (.aconst_null, 1) := dk_1 (dk_at dksJ33_untreeify_0 2 rfl rfl)
theorem dJ33_untreeify_3 : decode cJ33_untreeify 3 = .ok (.astore_n 3, 1) := dk_78 (dk_at dksJ33_untreeify_0 3 rfl rfl)
theorem dJ33_untreeify_4 : decode cJ33_untreeify 4 = .ok (.aload_n 0, 1) := dk_42 (dk_at dksJ33_untreeify_0 4 rfl rfl)
theorem dJ33_untreeify_5 : decode cJ33_untreeify 5 = .ok (.astore 4, 2) := dk_58 4 (dk_at dksJ33_untreeify_0 5 rfl rfl)
theorem dJ33_untreeify_7 : decode cJ33_untreeify 7 = .ok (.aload 4, 2) := dk_25 4 (dk_at dksJ33_untreeify_0 7 rfl rfl)
theorem dJ33_untreeify_9 : decode cJ33_untreeify 9 = .ok (.ifnull 41, 3) := dk_198 0 41 (dk_at dksJ33_untreeify_0 9 rfl rfl)
theorem dJ33_untreeify_12 : decode cJ33_untreeify 12 = .ok (.aload_n 1, 1) := dk_43 (dk_at dksJ33_untreeify_0 12 rfl rfl)
theorem dJ33_untreeify_13 : decode cJ33_untreeify 13 = .ok (.aload 4, 2) := dk_25 4 (dk_at dksJ33_untreeify_0 13 rfl rfl)
theorem dJ33_untreeify_15 : decode cJ33_untreeify 15 = .ok (.aconst_null, 1) := dk_1 (dk_at dksJ33_untreeify_0 15 rfl rfl)
theorem dJ33_untreeify_16 : decode cJ33_untreeify 16 = .ok (.invokevirtual 108, 3) := dk_182 0 108 (dk_at dksJ33_untreeify_0 16 rfl rfl)
theorem dJ33_untreeify_19 : decode cJ33_untreeify 19 = .ok (.astore 5, 2) := dk_58 5 (dk_at dksJ33_untreeify_0 19 rfl rfl)
theorem dJ33_untreeify_21 : decode cJ33_untreeify 21 = .ok (.aload_n 3, 1) := dk_45 (dk_at dksJ33_untreeify_0 21 rfl rfl)
theorem dJ33_untreeify_22 : decode cJ33_untreeify 22 = .ok (.ifnonnull 9, 3) := dk_199 0 9 (dk_at dksJ33_untreeify_1 0 rfl rfl)
theorem dJ33_untreeify_25 : decode cJ33_untreeify 25 = .ok (.aload 5, 2) := dk_25 5 (dk_at dksJ33_untreeify_1 3 rfl rfl)
theorem dJ33_untreeify_27 : decode cJ33_untreeify 27 = .ok (.astore_n 2, 1) := dk_77 (dk_at dksJ33_untreeify_1 5 rfl rfl)
theorem dJ33_untreeify_28 : decode cJ33_untreeify 28 = .ok (.goto 9, 3) := dk_167 0 9 (dk_at dksJ33_untreeify_1 6 rfl rfl)
theorem dJ33_untreeify_31 : decode cJ33_untreeify 31 = .ok (.aload_n 3, 1) := dk_45 (dk_at dksJ33_untreeify_1 9 rfl rfl)
theorem dJ33_untreeify_32 : decode cJ33_untreeify 32 = .ok (.aload 5, 2) := dk_25 5 (dk_at dksJ33_untreeify_1 10 rfl rfl)
theorem dJ33_untreeify_34 : decode cJ33_untreeify 34 = .ok (.putfield 112, 3) := dk_181 0 112 (dk_at dksJ33_untreeify_1 12 rfl rfl)
theorem dJ33_untreeify_37 : decode cJ33_untreeify 37 = .ok (.aload 5, 2) := dk_25 5 (dk_at dksJ33_untreeify_1 15 rfl rfl)
theorem dJ33_untreeify_39 : decode cJ33_untreeify 39 = .ok (.astore_n 3, 1) := dk_78 (dk_at dksJ33_untreeify_1 17 rfl rfl)
theorem dJ33_untreeify_40 : decode cJ33_untreeify 40 = .ok (.aload 4, 2) := dk_25 4 (dk_at dksJ33_untreeify_1 18 rfl rfl)
theorem dJ33_untreeify_42 : decode cJ33_untreeify 42 = .ok (.getfield 112, 3) := dk_180 0 112 (dk_at dksJ33_untreeify_1 20 rfl rfl)
theorem dJ33_untreeify_45 : decode cJ33_untreeify 45 = .ok (.astore 4, 2) := dk_58 4 (dk_at dksJ33_untreeify_2 0 rfl rfl)
theorem dJ33_untreeify_47 : decode cJ33_untreeify 47 = .ok (.goto (-40), 3) := dk_167 255 216 (dk_at dksJ33_untreeify_2 2 rfl rfl)
theorem dJ33_untreeify_50 : decode cJ33_untreeify 50 = .ok (.aload_n 2, 1) := dk_44 (dk_at dksJ33_untreeify_2 5 rfl rfl)
theorem dJ33_untreeify_51 : decode cJ33_untreeify 51 = .ok (.areturn, 1) := dk_176 (dk_at dksJ33_untreeify_2 6 rfl rfl)
abbrev cJ33_treeify : ByteArray := prog_46_method_7_code
def yJ33_treeify : MethodName := ⟨RJ33, "treeify", "([Ljava/util/HashMap$Node;)V"⟩
def dkwJ33_treeify_9 : List UInt8 := [25, 4, 78, 167, 255, 48, 43, 44, 184, 0, 104, 177]
abbrev dktJ33_treeify_9 : List UInt8 := dkwJ33_treeify_9 ++ []
def dkwJ33_treeify_8 : List UInt8 := [181, 0, 39, 167, 0, 9, 25, 12, 45, 181, 0, 42, 44, 45, 184, 0, 100, 77, 167, 0, 6, 167, 255, 114]
abbrev dktJ33_treeify_8 : List UInt8 := dkwJ33_treeify_8 ++ dktJ33_treeify_9
def dkwJ33_treeify_7 : List UInt8 := [180, 0, 42, 89, 58, 8, 199, 0, 38, 45, 25, 12, 181, 0, 9, 21, 9, 157, 0, 12, 25, 12, 45]
abbrev dktJ33_treeify_7 : List UInt8 := dkwJ33_treeify_7 ++ dktJ33_treeify_8
def dkwJ33_treeify_6 : List UInt8 := [184, 0, 96, 54, 9, 25, 8, 58, 12, 21, 9, 157, 0, 11, 25, 8, 180, 0, 39, 167, 0, 8, 25, 8]
abbrev dktJ33_treeify_6 : List UInt8 := dkwJ33_treeify_6 ++ dktJ33_treeify_7
def dkwJ33_treeify_5 : List UInt8 := [198, 0, 18, 25, 7, 25, 5, 25, 11, 184, 0, 59, 89, 54, 9, 154, 0, 12, 25, 5, 25, 11]
abbrev dktJ33_treeify_5 : List UInt8 := dkwJ33_treeify_5 ++ dktJ33_treeify_6
def dkwJ33_treeify_4 : List UInt8 := [162, 0, 9, 4, 54, 9, 167, 0, 43, 25, 7, 199, 0, 14, 25, 5, 184, 0, 55, 89, 58, 7]
abbrev dktJ33_treeify_4 : List UInt8 := dkwJ33_treeify_4 ++ dktJ33_treeify_5
def dkwJ33_treeify_3 : List UInt8 := [25, 8, 180, 0, 15, 89, 54, 10, 21, 6, 164, 0, 9, 2, 54, 9, 167, 0, 56, 21, 10, 21, 6]
abbrev dktJ33_treeify_3 : List UInt8 := dkwJ33_treeify_3 ++ dktJ33_treeify_4
def dkwJ33_treeify_2 : List UInt8 := [180, 0, 45, 58, 5, 45, 180, 0, 15, 54, 6, 1, 58, 7, 44, 58, 8, 25, 8, 180, 0, 45, 58, 11]
abbrev dktJ33_treeify_2 : List UInt8 := dkwJ33_treeify_2 ++ dktJ33_treeify_3
def dkwJ33_treeify_1 : List UInt8 := [181, 0, 39, 44, 199, 0, 18, 45, 1, 181, 0, 9, 45, 3, 181, 0, 93, 45, 77, 167, 0, 166, 45]
abbrev dktJ33_treeify_1 : List UInt8 := dkwJ33_treeify_1 ++ dktJ33_treeify_2
def dkwJ33_treeify_0 : List UInt8 := [1, 77, 42, 78, 45, 198, 0, 210, 45, 180, 0, 22, 192, 0, 10, 58, 4, 45, 45, 1, 90, 181, 0, 42]
abbrev dktJ33_treeify_0 : List UInt8 := dkwJ33_treeify_0 ++ dktJ33_treeify_1
theorem dksJ33_treeify_0 : cJ33_treeify.data.toList.drop 0 = dktJ33_treeify_0 := by decide +kernel
theorem dksJ33_treeify_1 : cJ33_treeify.data.toList.drop 24 = dktJ33_treeify_1 := dk_seg dksJ33_treeify_0 24 rfl rfl
theorem dksJ33_treeify_2 : cJ33_treeify.data.toList.drop 47 = dktJ33_treeify_2 := dk_seg dksJ33_treeify_1 23 rfl rfl
theorem dksJ33_treeify_3 : cJ33_treeify.data.toList.drop 71 = dktJ33_treeify_3 := dk_seg dksJ33_treeify_2 24 rfl rfl
theorem dksJ33_treeify_4 : cJ33_treeify.data.toList.drop 94 = dktJ33_treeify_4 := dk_seg dksJ33_treeify_3 23 rfl rfl
theorem dksJ33_treeify_5 : cJ33_treeify.data.toList.drop 116 = dktJ33_treeify_5 := dk_seg dksJ33_treeify_4 22 rfl rfl
theorem dksJ33_treeify_6 : cJ33_treeify.data.toList.drop 138 = dktJ33_treeify_6 := dk_seg dksJ33_treeify_5 22 rfl rfl
theorem dksJ33_treeify_7 : cJ33_treeify.data.toList.drop 162 = dktJ33_treeify_7 := dk_seg dksJ33_treeify_6 24 rfl rfl
theorem dksJ33_treeify_8 : cJ33_treeify.data.toList.drop 185 = dktJ33_treeify_8 := dk_seg dksJ33_treeify_7 23 rfl rfl
theorem dksJ33_treeify_9 : cJ33_treeify.data.toList.drop 209 = dktJ33_treeify_9 := dk_seg dksJ33_treeify_8 24 rfl rfl
theorem dJ33_treeify_0 : decode cJ33_treeify 0 = .ok (.aconst_null, 1) := dk_1 (dk_at dksJ33_treeify_0 0 rfl rfl)
theorem dJ33_treeify_1 : decode cJ33_treeify 1 = .ok (.astore_n 2, 1) := dk_77 (dk_at dksJ33_treeify_0 1 rfl rfl)
theorem dJ33_treeify_2 : decode cJ33_treeify 2 = .ok (.aload_n 0, 1) := dk_42 (dk_at dksJ33_treeify_0 2 rfl rfl)
theorem dJ33_treeify_3 : decode cJ33_treeify 3 = .ok (.astore_n 3, 1) := dk_78 (dk_at dksJ33_treeify_0 3 rfl rfl)
theorem dJ33_treeify_4 : decode cJ33_treeify 4 = .ok (.aload_n 3, 1) := dk_45 (dk_at dksJ33_treeify_0 4 rfl rfl)
theorem dJ33_treeify_5 : decode cJ33_treeify 5 = .ok (.ifnull 210, 3) := dk_198 0 210 (dk_at dksJ33_treeify_0 5 rfl rfl)
theorem dJ33_treeify_8 : decode cJ33_treeify 8 = .ok (.aload_n 3, 1) := dk_45 (dk_at dksJ33_treeify_0 8 rfl rfl)
theorem dJ33_treeify_9 : decode cJ33_treeify 9 = .ok (.getfield 22, 3) := dk_180 0 22 (dk_at dksJ33_treeify_0 9 rfl rfl)
theorem dJ33_treeify_12 : decode cJ33_treeify 12 = .ok (.checkcast 10, 3) := dk_192 0 10 (dk_at dksJ33_treeify_0 12 rfl rfl)
theorem dJ33_treeify_15 : decode cJ33_treeify 15 = .ok (.astore 4, 2) := dk_58 4 (dk_at dksJ33_treeify_0 15 rfl rfl)
theorem dJ33_treeify_17 : decode cJ33_treeify 17 = .ok (.aload_n 3, 1) := dk_45 (dk_at dksJ33_treeify_0 17 rfl rfl)
theorem dJ33_treeify_18 : decode cJ33_treeify 18 = .ok (.aload_n 3, 1) := dk_45 (dk_at dksJ33_treeify_0 18 rfl rfl)
theorem dJ33_treeify_19 : decode cJ33_treeify 19 = .ok (.aconst_null, 1) := dk_1 (dk_at dksJ33_treeify_0 19 rfl rfl)
theorem dJ33_treeify_20 : decode cJ33_treeify 20 = .ok (.dup_x1, 1) := dk_90 (dk_at dksJ33_treeify_0 20 rfl rfl)
theorem dJ33_treeify_21 : decode cJ33_treeify 21 = .ok (.putfield 42, 3) := dk_181 0 42 (dk_at dksJ33_treeify_0 21 rfl rfl)
theorem dJ33_treeify_24 : decode cJ33_treeify 24 = .ok (.putfield 39, 3) := dk_181 0 39 (dk_at dksJ33_treeify_1 0 rfl rfl)
theorem dJ33_treeify_27 : decode cJ33_treeify 27 = .ok (.aload_n 2, 1) := dk_44 (dk_at dksJ33_treeify_1 3 rfl rfl)
theorem dJ33_treeify_28 : decode cJ33_treeify 28 = .ok (.ifnonnull 18, 3) := dk_199 0 18 (dk_at dksJ33_treeify_1 4 rfl rfl)
theorem dJ33_treeify_31 : decode cJ33_treeify 31 = .ok (.aload_n 3, 1) := dk_45 (dk_at dksJ33_treeify_1 7 rfl rfl)
theorem dJ33_treeify_32 : decode cJ33_treeify 32 = .ok (.aconst_null, 1) := dk_1 (dk_at dksJ33_treeify_1 8 rfl rfl)
theorem dJ33_treeify_33 : decode cJ33_treeify 33 = .ok (.putfield 9, 3) := dk_181 0 9 (dk_at dksJ33_treeify_1 9 rfl rfl)
theorem dJ33_treeify_36 : decode cJ33_treeify 36 = .ok (.aload_n 3, 1) := dk_45 (dk_at dksJ33_treeify_1 12 rfl rfl)
theorem dJ33_treeify_37 : decode cJ33_treeify 37 = .ok (.iconst 0, 1) := dk_3 (dk_at dksJ33_treeify_1 13 rfl rfl)
theorem dJ33_treeify_38 : decode cJ33_treeify 38 = .ok (.putfield 93, 3) := dk_181 0 93 (dk_at dksJ33_treeify_1 14 rfl rfl)
theorem dJ33_treeify_41 : decode cJ33_treeify 41 = .ok (.aload_n 3, 1) := dk_45 (dk_at dksJ33_treeify_1 17 rfl rfl)
theorem dJ33_treeify_42 : decode cJ33_treeify 42 = .ok (.astore_n 2, 1) := dk_77 (dk_at dksJ33_treeify_1 18 rfl rfl)
theorem dJ33_treeify_43 : decode cJ33_treeify 43 = .ok (.goto 166, 3) := dk_167 0 166 (dk_at dksJ33_treeify_1 19 rfl rfl)
theorem dJ33_treeify_46 : decode cJ33_treeify 46 = .ok (.aload_n 3, 1) := dk_45 (dk_at dksJ33_treeify_1 22 rfl rfl)
theorem dJ33_treeify_47 : decode cJ33_treeify 47 = .ok (.getfield 45, 3) := dk_180 0 45 (dk_at dksJ33_treeify_2 0 rfl rfl)
theorem dJ33_treeify_50 : decode cJ33_treeify 50 = .ok (.astore 5, 2) := dk_58 5 (dk_at dksJ33_treeify_2 3 rfl rfl)
theorem dJ33_treeify_52 : decode cJ33_treeify 52 = .ok (.aload_n 3, 1) := dk_45 (dk_at dksJ33_treeify_2 5 rfl rfl)
theorem dJ33_treeify_53 : decode cJ33_treeify 53 = .ok (.getfield 15, 3) := dk_180 0 15 (dk_at dksJ33_treeify_2 6 rfl rfl)
theorem dJ33_treeify_56 : decode cJ33_treeify 56 = .ok (.istore 6, 2) := dk_54 6 (dk_at dksJ33_treeify_2 9 rfl rfl)
theorem dJ33_treeify_58 : decode cJ33_treeify 58 = .ok (.aconst_null, 1) := dk_1 (dk_at dksJ33_treeify_2 11 rfl rfl)
theorem dJ33_treeify_59 : decode cJ33_treeify 59 = .ok (.astore 7, 2) := dk_58 7 (dk_at dksJ33_treeify_2 12 rfl rfl)
theorem dJ33_treeify_61 : decode cJ33_treeify 61 = .ok (.aload_n 2, 1) := dk_44 (dk_at dksJ33_treeify_2 14 rfl rfl)
theorem dJ33_treeify_62 : decode cJ33_treeify 62 = .ok (.astore 8, 2) := dk_58 8 (dk_at dksJ33_treeify_2 15 rfl rfl)
theorem dJ33_treeify_64 : decode cJ33_treeify 64 = .ok (.aload 8, 2) := dk_25 8 (dk_at dksJ33_treeify_2 17 rfl rfl)
theorem dJ33_treeify_66 : decode cJ33_treeify 66 = .ok (.getfield 45, 3) := dk_180 0 45 (dk_at dksJ33_treeify_2 19 rfl rfl)
theorem dJ33_treeify_69 : decode cJ33_treeify 69 = .ok (.astore 11, 2) := dk_58 11 (dk_at dksJ33_treeify_2 22 rfl rfl)
theorem dJ33_treeify_71 : decode cJ33_treeify 71 = .ok (.aload 8, 2) := dk_25 8 (dk_at dksJ33_treeify_3 0 rfl rfl)
theorem dJ33_treeify_73 : decode cJ33_treeify 73 = .ok (.getfield 15, 3) := dk_180 0 15 (dk_at dksJ33_treeify_3 2 rfl rfl)
theorem dJ33_treeify_76 : decode cJ33_treeify 76 = .ok (.dup, 1) := dk_89 (dk_at dksJ33_treeify_3 5 rfl rfl)
theorem dJ33_treeify_77 : decode cJ33_treeify 77 = .ok (.istore 10, 2) := dk_54 10 (dk_at dksJ33_treeify_3 6 rfl rfl)
theorem dJ33_treeify_79 : decode cJ33_treeify 79 = .ok (.iload 6, 2) := dk_21 6 (dk_at dksJ33_treeify_3 8 rfl rfl)
theorem dJ33_treeify_81 : decode cJ33_treeify 81 = .ok (.if_icmp .le 9, 3) := dk_164 0 9 (dk_at dksJ33_treeify_3 10 rfl rfl)
theorem dJ33_treeify_84 : decode cJ33_treeify 84 = .ok (.iconst (-1), 1) := dk_2 (dk_at dksJ33_treeify_3 13 rfl rfl)
theorem dJ33_treeify_85 : decode cJ33_treeify 85 = .ok (.istore 9, 2) := dk_54 9 (dk_at dksJ33_treeify_3 14 rfl rfl)
theorem dJ33_treeify_87 : decode cJ33_treeify 87 = .ok (.goto 56, 3) := dk_167 0 56 (dk_at dksJ33_treeify_3 16 rfl rfl)
theorem dJ33_treeify_90 : decode cJ33_treeify 90 = .ok (.iload 10, 2) := dk_21 10 (dk_at dksJ33_treeify_3 19 rfl rfl)
theorem dJ33_treeify_92 : decode cJ33_treeify 92 = .ok (.iload 6, 2) := dk_21 6 (dk_at dksJ33_treeify_3 21 rfl rfl)
theorem dJ33_treeify_94 : decode cJ33_treeify 94 = .ok (.if_icmp .ge 9, 3) := dk_162 0 9 (dk_at dksJ33_treeify_4 0 rfl rfl)
theorem dJ33_treeify_97 : decode cJ33_treeify 97 = .ok (.iconst 1, 1) := dk_4 (dk_at dksJ33_treeify_4 3 rfl rfl)
theorem dJ33_treeify_98 : decode cJ33_treeify 98 = .ok (.istore 9, 2) := dk_54 9 (dk_at dksJ33_treeify_4 4 rfl rfl)
theorem dJ33_treeify_100 : decode cJ33_treeify 100 = .ok (.goto 43, 3) := dk_167 0 43 (dk_at dksJ33_treeify_4 6 rfl rfl)
theorem dJ33_treeify_103 : decode cJ33_treeify 103 = .ok (.aload 7, 2) := dk_25 7 (dk_at dksJ33_treeify_4 9 rfl rfl)
theorem dJ33_treeify_105 : decode cJ33_treeify 105 = .ok (.ifnonnull 14, 3) := dk_199 0 14 (dk_at dksJ33_treeify_4 11 rfl rfl)
theorem dJ33_treeify_108 : decode cJ33_treeify 108 = .ok (.aload 5, 2) := dk_25 5 (dk_at dksJ33_treeify_4 14 rfl rfl)
theorem dJ33_treeify_110 : decode cJ33_treeify 110 = .ok (.invokestatic 55, 3) := dk_184 0 55 (dk_at dksJ33_treeify_4 16 rfl rfl)
theorem dJ33_treeify_113 : decode cJ33_treeify 113 = .ok (.dup, 1) := dk_89 (dk_at dksJ33_treeify_4 19 rfl rfl)
theorem dJ33_treeify_114 : decode cJ33_treeify 114 = .ok (.astore 7, 2) := dk_58 7 (dk_at dksJ33_treeify_4 20 rfl rfl)
theorem dJ33_treeify_116 : decode cJ33_treeify 116 = .ok (.ifnull 18, 3) := dk_198 0 18 (dk_at dksJ33_treeify_5 0 rfl rfl)
theorem dJ33_treeify_119 : decode cJ33_treeify 119 = .ok (.aload 7, 2) := dk_25 7 (dk_at dksJ33_treeify_5 3 rfl rfl)
theorem dJ33_treeify_121 : decode cJ33_treeify 121 = .ok (.aload 5, 2) := dk_25 5 (dk_at dksJ33_treeify_5 5 rfl rfl)
theorem dJ33_treeify_123 : decode cJ33_treeify 123 = .ok (.aload 11, 2) := dk_25 11 (dk_at dksJ33_treeify_5 7 rfl rfl)
theorem dJ33_treeify_125 : decode cJ33_treeify 125 = .ok (.invokestatic 59, 3) := dk_184 0 59 (dk_at dksJ33_treeify_5 9 rfl rfl)
theorem dJ33_treeify_128 : decode cJ33_treeify 128 = .ok (.dup, 1) := dk_89 (dk_at dksJ33_treeify_5 12 rfl rfl)
theorem dJ33_treeify_129 : decode cJ33_treeify 129 = .ok (.istore 9, 2) := dk_54 9 (dk_at dksJ33_treeify_5 13 rfl rfl)
theorem dJ33_treeify_131 : decode cJ33_treeify 131 = .ok (.ifCond .ne 12, 3) := dk_154 0 12 (dk_at dksJ33_treeify_5 15 rfl rfl)
theorem dJ33_treeify_134 : decode cJ33_treeify 134 = .ok (.aload 5, 2) := dk_25 5 (dk_at dksJ33_treeify_5 18 rfl rfl)
theorem dJ33_treeify_136 : decode cJ33_treeify 136 = .ok (.aload 11, 2) := dk_25 11 (dk_at dksJ33_treeify_5 20 rfl rfl)
theorem dJ33_treeify_138 : decode cJ33_treeify 138 = .ok (.invokestatic 96, 3) := dk_184 0 96 (dk_at dksJ33_treeify_6 0 rfl rfl)
theorem dJ33_treeify_141 : decode cJ33_treeify 141 = .ok (.istore 9, 2) := dk_54 9 (dk_at dksJ33_treeify_6 3 rfl rfl)
theorem dJ33_treeify_143 : decode cJ33_treeify 143 = .ok (.aload 8, 2) := dk_25 8 (dk_at dksJ33_treeify_6 5 rfl rfl)
theorem dJ33_treeify_145 : decode cJ33_treeify 145 = .ok (.astore 12, 2) := dk_58 12 (dk_at dksJ33_treeify_6 7 rfl rfl)
theorem dJ33_treeify_147 : decode cJ33_treeify 147 = .ok (.iload 9, 2) := dk_21 9 (dk_at dksJ33_treeify_6 9 rfl rfl)
theorem dJ33_treeify_149 : decode cJ33_treeify 149 = .ok (.ifCond .gt 11, 3) := dk_157 0 11 (dk_at dksJ33_treeify_6 11 rfl rfl)
theorem dJ33_treeify_152 : decode cJ33_treeify 152 = .ok (.aload 8, 2) := dk_25 8 (dk_at dksJ33_treeify_6 14 rfl rfl)
theorem dJ33_treeify_154 : decode cJ33_treeify 154 = .ok (.getfield 39, 3) := dk_180 0 39 (dk_at dksJ33_treeify_6 16 rfl rfl)
theorem dJ33_treeify_157 : decode cJ33_treeify 157 = .ok (.goto 8, 3) := dk_167 0 8 (dk_at dksJ33_treeify_6 19 rfl rfl)
theorem dJ33_treeify_160 : decode cJ33_treeify 160 = .ok (.aload 8, 2) := dk_25 8 (dk_at dksJ33_treeify_6 22 rfl rfl)
theorem dJ33_treeify_162 : decode cJ33_treeify 162 = .ok (.getfield 42, 3) := dk_180 0 42 (dk_at dksJ33_treeify_7 0 rfl rfl)
theorem dJ33_treeify_165 : decode cJ33_treeify 165 = .ok (.dup, 1) := dk_89 (dk_at dksJ33_treeify_7 3 rfl rfl)
theorem dJ33_treeify_166 : decode cJ33_treeify 166 = .ok (.astore 8, 2) := dk_58 8 (dk_at dksJ33_treeify_7 4 rfl rfl)
theorem dJ33_treeify_168 : decode cJ33_treeify 168 = .ok (.ifnonnull 38, 3) := dk_199 0 38 (dk_at dksJ33_treeify_7 6 rfl rfl)
theorem dJ33_treeify_171 : decode cJ33_treeify 171 = .ok (.aload_n 3, 1) := dk_45 (dk_at dksJ33_treeify_7 9 rfl rfl)
theorem dJ33_treeify_172 : decode cJ33_treeify 172 = .ok (.aload 12, 2) := dk_25 12 (dk_at dksJ33_treeify_7 10 rfl rfl)
theorem dJ33_treeify_174 : decode cJ33_treeify 174 = .ok (.putfield 9, 3) := dk_181 0 9 (dk_at dksJ33_treeify_7 12 rfl rfl)
theorem dJ33_treeify_177 : decode cJ33_treeify 177 = .ok (.iload 9, 2) := dk_21 9 (dk_at dksJ33_treeify_7 15 rfl rfl)
theorem dJ33_treeify_179 : decode cJ33_treeify 179 = .ok (.ifCond .gt 12, 3) := dk_157 0 12 (dk_at dksJ33_treeify_7 17 rfl rfl)
theorem dJ33_treeify_182 : decode cJ33_treeify 182 = .ok (.aload 12, 2) := dk_25 12 (dk_at dksJ33_treeify_7 20 rfl rfl)
theorem dJ33_treeify_184 : decode cJ33_treeify 184 = .ok (.aload_n 3, 1) := dk_45 (dk_at dksJ33_treeify_7 22 rfl rfl)
theorem dJ33_treeify_185 : decode cJ33_treeify 185 = .ok (.putfield 39, 3) := dk_181 0 39 (dk_at dksJ33_treeify_8 0 rfl rfl)
theorem dJ33_treeify_188 : decode cJ33_treeify 188 = .ok (.goto 9, 3) := dk_167 0 9 (dk_at dksJ33_treeify_8 3 rfl rfl)
theorem dJ33_treeify_191 : decode cJ33_treeify 191 = .ok (.aload 12, 2) := dk_25 12 (dk_at dksJ33_treeify_8 6 rfl rfl)
theorem dJ33_treeify_193 : decode cJ33_treeify 193 = .ok (.aload_n 3, 1) := dk_45 (dk_at dksJ33_treeify_8 8 rfl rfl)
theorem dJ33_treeify_194 : decode cJ33_treeify 194 = .ok (.putfield 42, 3) := dk_181 0 42 (dk_at dksJ33_treeify_8 9 rfl rfl)
theorem dJ33_treeify_197 : decode cJ33_treeify 197 = .ok (.aload_n 2, 1) := dk_44 (dk_at dksJ33_treeify_8 12 rfl rfl)
theorem dJ33_treeify_198 : decode cJ33_treeify 198 = .ok (.aload_n 3, 1) := dk_45 (dk_at dksJ33_treeify_8 13 rfl rfl)
theorem dJ33_treeify_199 : decode cJ33_treeify 199 = .ok (.invokestatic 100, 3) := dk_184 0 100 (dk_at dksJ33_treeify_8 14 rfl rfl)
theorem dJ33_treeify_202 : decode cJ33_treeify 202 = .ok (.astore_n 2, 1) := dk_77 (dk_at dksJ33_treeify_8 17 rfl rfl)
theorem dJ33_treeify_203 : decode cJ33_treeify 203 = .ok (.goto 6, 3) := dk_167 0 6 (dk_at dksJ33_treeify_8 18 rfl rfl)
theorem dJ33_treeify_206 : decode cJ33_treeify 206 = .ok (.goto (-142), 3) := dk_167 255 114 (dk_at dksJ33_treeify_8 21 rfl rfl)
theorem dJ33_treeify_209 : decode cJ33_treeify 209 = .ok (.aload 4, 2) := dk_25 4 (dk_at dksJ33_treeify_9 0 rfl rfl)
theorem dJ33_treeify_211 : decode cJ33_treeify 211 = .ok (.astore_n 3, 1) := dk_78 (dk_at dksJ33_treeify_9 2 rfl rfl)
theorem dJ33_treeify_212 : decode cJ33_treeify 212 = .ok (.goto (-208), 3) := dk_167 255 48 (dk_at dksJ33_treeify_9 3 rfl rfl)
theorem dJ33_treeify_215 : decode cJ33_treeify 215 = .ok (.aload_n 1, 1) := dk_43 (dk_at dksJ33_treeify_9 6 rfl rfl)
theorem dJ33_treeify_216 : decode cJ33_treeify 216 = .ok (.aload_n 2, 1) := dk_44 (dk_at dksJ33_treeify_9 7 rfl rfl)
theorem dJ33_treeify_217 : decode cJ33_treeify 217 = .ok (.invokestatic 104, 3) := dk_184 0 104 (dk_at dksJ33_treeify_9 8 rfl rfl)
theorem dJ33_treeify_220 : decode cJ33_treeify 220 = .ok (.return_, 1) := dk_177 (dk_at dksJ33_treeify_9 11 rfl rfl)
abbrev cJ33_balanceInsertion : ByteArray := prog_46_method_14_code
def yJ33_balanceInsertion : MethodName := ⟨RJ33, "balanceInsertion", "(Ljava/util/HashMap$TreeNode;Ljava/util/HashMap$TreeNode;)Ljava/util/HashMap$TreeNode;"⟩
def dkwJ33_balanceInsertion_10 : List UInt8 := [198, 255, 33, 45, 4, 181, 0, 93, 42, 45, 184, 0, 130, 75, 167, 255, 19]
abbrev dktJ33_balanceInsertion_10 : List UInt8 := dkwJ33_balanceInsertion_10 ++ []
def dkwJ33_balanceInsertion_9 : List UInt8 := [199, 0, 7, 1, 167, 0, 7, 44, 180, 0, 9, 78, 44, 198, 255, 42, 44, 3, 181, 0, 93, 45]
abbrev dktJ33_balanceInsertion_9 : List UInt8 := dkwJ33_balanceInsertion_9 ++ dktJ33_balanceInsertion_10
def dkwJ33_balanceInsertion_8 : List UInt8 := [43, 44, 180, 0, 39, 166, 0, 29, 42, 44, 89, 76, 184, 0, 133, 75, 43, 180, 0, 9, 89, 77]
abbrev dktJ33_balanceInsertion_8 : List UInt8 := dkwJ33_balanceInsertion_8 ++ dktJ33_balanceInsertion_9
def dkwJ33_balanceInsertion_7 : List UInt8 := [153, 0, 24, 25, 4, 3, 181, 0, 93, 44, 3, 181, 0, 93, 45, 4, 181, 0, 93, 45, 76, 167, 255, 80]
abbrev dktJ33_balanceInsertion_7 : List UInt8 := dkwJ33_balanceInsertion_7 ++ dktJ33_balanceInsertion_8
def dkwJ33_balanceInsertion_6 : List UInt8 := [181, 0, 93, 42, 45, 184, 0, 133, 75, 167, 255, 114, 25, 4, 198, 0, 32, 25, 4, 180, 0, 93]
abbrev dktJ33_balanceInsertion_6 : List UInt8 := dkwJ33_balanceInsertion_6 ++ dktJ33_balanceInsertion_7
def dkwJ33_balanceInsertion_5 : List UInt8 := [167, 0, 7, 44, 180, 0, 9, 78, 44, 198, 255, 137, 44, 3, 181, 0, 93, 45, 198, 255, 128, 45, 4]
abbrev dktJ33_balanceInsertion_5 : List UInt8 := dkwJ33_balanceInsertion_5 ++ dktJ33_balanceInsertion_6
def dkwJ33_balanceInsertion_4 : List UInt8 := [180, 0, 42, 166, 0, 29, 42, 44, 89, 76, 184, 0, 130, 75, 43, 180, 0, 9, 89, 77, 199, 0, 7, 1]
abbrev dktJ33_balanceInsertion_4 : List UInt8 := dkwJ33_balanceInsertion_4 ++ dktJ33_balanceInsertion_5
def dkwJ33_balanceInsertion_3 : List UInt8 := [25, 5, 3, 181, 0, 93, 44, 3, 181, 0, 93, 45, 4, 181, 0, 93, 45, 76, 167, 255, 175, 43, 44]
abbrev dktJ33_balanceInsertion_3 : List UInt8 := dkwJ33_balanceInsertion_3 ++ dktJ33_balanceInsertion_4
def dkwJ33_balanceInsertion_2 : List UInt8 := [58, 4, 166, 0, 103, 45, 180, 0, 42, 89, 58, 5, 198, 0, 32, 25, 5, 180, 0, 93, 153, 0, 24]
abbrev dktJ33_balanceInsertion_2 : List UInt8 := dkwJ33_balanceInsertion_2 ++ dktJ33_balanceInsertion_3
def dkwJ33_balanceInsertion_1 : List UInt8 := [180, 0, 93, 153, 0, 12, 44, 180, 0, 9, 89, 78, 199, 0, 5, 42, 176, 44, 45, 180, 0, 39, 89]
abbrev dktJ33_balanceInsertion_1 : List UInt8 := dkwJ33_balanceInsertion_1 ++ dktJ33_balanceInsertion_2
def dkwJ33_balanceInsertion_0 : List UInt8 := [43, 4, 181, 0, 93, 43, 180, 0, 9, 89, 77, 199, 0, 10, 43, 3, 181, 0, 93, 43, 176, 44]
abbrev dktJ33_balanceInsertion_0 : List UInt8 := dkwJ33_balanceInsertion_0 ++ dktJ33_balanceInsertion_1
theorem dksJ33_balanceInsertion_0 : cJ33_balanceInsertion.data.toList.drop 0 = dktJ33_balanceInsertion_0 := by decide +kernel
theorem dksJ33_balanceInsertion_1 : cJ33_balanceInsertion.data.toList.drop 22 = dktJ33_balanceInsertion_1 := dk_seg dksJ33_balanceInsertion_0 22 rfl rfl
theorem dksJ33_balanceInsertion_2 : cJ33_balanceInsertion.data.toList.drop 45 = dktJ33_balanceInsertion_2 := dk_seg dksJ33_balanceInsertion_1 23 rfl rfl
theorem dksJ33_balanceInsertion_3 : cJ33_balanceInsertion.data.toList.drop 68 = dktJ33_balanceInsertion_3 := dk_seg dksJ33_balanceInsertion_2 23 rfl rfl
theorem dksJ33_balanceInsertion_4 : cJ33_balanceInsertion.data.toList.drop 91 = dktJ33_balanceInsertion_4 := dk_seg dksJ33_balanceInsertion_3 23 rfl rfl
theorem dksJ33_balanceInsertion_5 : cJ33_balanceInsertion.data.toList.drop 115 = dktJ33_balanceInsertion_5 := dk_seg dksJ33_balanceInsertion_4 24 rfl rfl
theorem dksJ33_balanceInsertion_6 : cJ33_balanceInsertion.data.toList.drop 138 = dktJ33_balanceInsertion_6 := dk_seg dksJ33_balanceInsertion_5 23 rfl rfl
theorem dksJ33_balanceInsertion_7 : cJ33_balanceInsertion.data.toList.drop 160 = dktJ33_balanceInsertion_7 := dk_seg dksJ33_balanceInsertion_6 22 rfl rfl
theorem dksJ33_balanceInsertion_8 : cJ33_balanceInsertion.data.toList.drop 184 = dktJ33_balanceInsertion_8 := dk_seg dksJ33_balanceInsertion_7 24 rfl rfl
theorem dksJ33_balanceInsertion_9 : cJ33_balanceInsertion.data.toList.drop 206 = dktJ33_balanceInsertion_9 := dk_seg dksJ33_balanceInsertion_8 22 rfl rfl
theorem dksJ33_balanceInsertion_10 : cJ33_balanceInsertion.data.toList.drop 228 = dktJ33_balanceInsertion_10 := dk_seg dksJ33_balanceInsertion_9 22 rfl rfl
theorem dJ33_balanceInsertion_0 : decode cJ33_balanceInsertion 0 = .ok (.aload_n 1, 1) := dk_43 (dk_at dksJ33_balanceInsertion_0 0 rfl rfl)
theorem dJ33_balanceInsertion_1 : decode cJ33_balanceInsertion 1 = .ok (.iconst 1, 1) := dk_4 (dk_at dksJ33_balanceInsertion_0 1 rfl rfl)
theorem dJ33_balanceInsertion_2 : decode cJ33_balanceInsertion 2 = .ok (.putfield 93, 3) := dk_181 0 93 (dk_at dksJ33_balanceInsertion_0 2 rfl rfl)
theorem dJ33_balanceInsertion_5 : decode cJ33_balanceInsertion 5 = .ok (.aload_n 1, 1) := dk_43 (dk_at dksJ33_balanceInsertion_0 5 rfl rfl)
theorem dJ33_balanceInsertion_6 : decode cJ33_balanceInsertion 6 = .ok (.getfield 9, 3) := dk_180 0 9 (dk_at dksJ33_balanceInsertion_0 6 rfl rfl)
theorem dJ33_balanceInsertion_9 : decode cJ33_balanceInsertion 9 = .ok (.dup, 1) := dk_89 (dk_at dksJ33_balanceInsertion_0 9 rfl rfl)
theorem dJ33_balanceInsertion_10 : decode cJ33_balanceInsertion 10 = .ok (.astore_n 2, 1) := dk_77 (dk_at dksJ33_balanceInsertion_0 10 rfl rfl)
theorem dJ33_balanceInsertion_11 : decode cJ33_balanceInsertion 11 = .ok (.ifnonnull 10, 3) := dk_199 0 10 (dk_at dksJ33_balanceInsertion_0 11 rfl rfl)
theorem dJ33_balanceInsertion_14 : decode cJ33_balanceInsertion 14 = .ok (.aload_n 1, 1) := dk_43 (dk_at dksJ33_balanceInsertion_0 14 rfl rfl)
theorem dJ33_balanceInsertion_15 : decode cJ33_balanceInsertion 15 = .ok (.iconst 0, 1) := dk_3 (dk_at dksJ33_balanceInsertion_0 15 rfl rfl)
theorem dJ33_balanceInsertion_16 : decode cJ33_balanceInsertion 16 = .ok (.putfield 93, 3) := dk_181 0 93 (dk_at dksJ33_balanceInsertion_0 16 rfl rfl)
theorem dJ33_balanceInsertion_19 : decode cJ33_balanceInsertion 19 = .ok (.aload_n 1, 1) := dk_43 (dk_at dksJ33_balanceInsertion_0 19 rfl rfl)
theorem dJ33_balanceInsertion_20 : decode cJ33_balanceInsertion 20 = .ok (.areturn, 1) := dk_176 (dk_at dksJ33_balanceInsertion_0 20 rfl rfl)
theorem dJ33_balanceInsertion_21 : decode cJ33_balanceInsertion 21 = .ok (.aload_n 2, 1) := dk_44 (dk_at dksJ33_balanceInsertion_0 21 rfl rfl)
theorem dJ33_balanceInsertion_22 : decode cJ33_balanceInsertion 22 = .ok (.getfield 93, 3) := dk_180 0 93 (dk_at dksJ33_balanceInsertion_1 0 rfl rfl)
theorem dJ33_balanceInsertion_25 : decode cJ33_balanceInsertion 25 = .ok (.ifCond .eq 12, 3) := dk_153 0 12 (dk_at dksJ33_balanceInsertion_1 3 rfl rfl)
theorem dJ33_balanceInsertion_28 : decode cJ33_balanceInsertion 28 = .ok (.aload_n 2, 1) := dk_44 (dk_at dksJ33_balanceInsertion_1 6 rfl rfl)
theorem dJ33_balanceInsertion_29 : decode cJ33_balanceInsertion 29 = .ok (.getfield 9, 3) := dk_180 0 9 (dk_at dksJ33_balanceInsertion_1 7 rfl rfl)
theorem dJ33_balanceInsertion_32 : decode cJ33_balanceInsertion 32 = .ok (.dup, 1) := dk_89 (dk_at dksJ33_balanceInsertion_1 10 rfl rfl)
theorem dJ33_balanceInsertion_33 : decode cJ33_balanceInsertion 33 = .ok (.astore_n 3, 1) := dk_78 (dk_at dksJ33_balanceInsertion_1 11 rfl rfl)
theorem dJ33_balanceInsertion_34 : decode cJ33_balanceInsertion 34 = .ok (.ifnonnull 5, 3) := dk_199 0 5 (dk_at dksJ33_balanceInsertion_1 12 rfl rfl)
theorem dJ33_balanceInsertion_37 : decode cJ33_balanceInsertion 37 = .ok (.aload_n 0, 1) := dk_42 (dk_at dksJ33_balanceInsertion_1 15 rfl rfl)
theorem dJ33_balanceInsertion_38 : decode cJ33_balanceInsertion 38 = .ok (.areturn, 1) := dk_176 (dk_at dksJ33_balanceInsertion_1 16 rfl rfl)
theorem dJ33_balanceInsertion_39 : decode cJ33_balanceInsertion 39 = .ok (.aload_n 2, 1) := dk_44 (dk_at dksJ33_balanceInsertion_1 17 rfl rfl)
theorem dJ33_balanceInsertion_40 : decode cJ33_balanceInsertion 40 = .ok (.aload_n 3, 1) := dk_45 (dk_at dksJ33_balanceInsertion_1 18 rfl rfl)
theorem dJ33_balanceInsertion_41 : decode cJ33_balanceInsertion 41 = .ok (.getfield 39, 3) := dk_180 0 39 (dk_at dksJ33_balanceInsertion_1 19 rfl rfl)
theorem dJ33_balanceInsertion_44 : decode cJ33_balanceInsertion 44 = .ok (.dup, 1) := dk_89 (dk_at dksJ33_balanceInsertion_1 22 rfl rfl)
theorem dJ33_balanceInsertion_45 : decode cJ33_balanceInsertion 45 = .ok (.astore 4, 2) := dk_58 4 (dk_at dksJ33_balanceInsertion_2 0 rfl rfl)
theorem dJ33_balanceInsertion_47 : decode cJ33_balanceInsertion 47 = .ok (.if_acmp .ne 103, 3) := dk_166 0 103 (dk_at dksJ33_balanceInsertion_2 2 rfl rfl)
theorem dJ33_balanceInsertion_50 : decode cJ33_balanceInsertion 50 = .ok (.aload_n 3, 1) := dk_45 (dk_at dksJ33_balanceInsertion_2 5 rfl rfl)
theorem dJ33_balanceInsertion_51 : decode cJ33_balanceInsertion 51 = .ok (.getfield 42, 3) := dk_180 0 42 (dk_at dksJ33_balanceInsertion_2 6 rfl rfl)
theorem dJ33_balanceInsertion_54 : decode cJ33_balanceInsertion 54 = .ok (.dup, 1) := dk_89 (dk_at dksJ33_balanceInsertion_2 9 rfl rfl)
theorem dJ33_balanceInsertion_55 : decode cJ33_balanceInsertion 55 = .ok (.astore 5, 2) := dk_58 5 (dk_at dksJ33_balanceInsertion_2 10 rfl rfl)
theorem dJ33_balanceInsertion_57 : decode cJ33_balanceInsertion 57 = .ok (.ifnull 32, 3) := dk_198 0 32 (dk_at dksJ33_balanceInsertion_2 12 rfl rfl)
theorem dJ33_balanceInsertion_60 : decode cJ33_balanceInsertion 60 = .ok (.aload 5, 2) := dk_25 5 (dk_at dksJ33_balanceInsertion_2 15 rfl rfl)
theorem dJ33_balanceInsertion_62 : decode cJ33_balanceInsertion 62 = .ok (.getfield 93, 3) := dk_180 0 93 (dk_at dksJ33_balanceInsertion_2 17 rfl rfl)
theorem dJ33_balanceInsertion_65 : decode cJ33_balanceInsertion 65 = .ok (.ifCond .eq 24, 3) := dk_153 0 24 (dk_at dksJ33_balanceInsertion_2 20 rfl rfl)
theorem dJ33_balanceInsertion_68 : decode cJ33_balanceInsertion 68 = .ok (.aload 5, 2) := dk_25 5 (dk_at dksJ33_balanceInsertion_3 0 rfl rfl)
theorem dJ33_balanceInsertion_70 : decode cJ33_balanceInsertion 70 = .ok (.iconst 0, 1) := dk_3 (dk_at dksJ33_balanceInsertion_3 2 rfl rfl)
theorem dJ33_balanceInsertion_71 : decode cJ33_balanceInsertion 71 = .ok (.putfield 93, 3) := dk_181 0 93 (dk_at dksJ33_balanceInsertion_3 3 rfl rfl)
theorem dJ33_balanceInsertion_74 : decode cJ33_balanceInsertion 74 = .ok (.aload_n 2, 1) := dk_44 (dk_at dksJ33_balanceInsertion_3 6 rfl rfl)
theorem dJ33_balanceInsertion_75 : decode cJ33_balanceInsertion 75 = .ok (.iconst 0, 1) := dk_3 (dk_at dksJ33_balanceInsertion_3 7 rfl rfl)
theorem dJ33_balanceInsertion_76 : decode cJ33_balanceInsertion 76 = .ok (.putfield 93, 3) := dk_181 0 93 (dk_at dksJ33_balanceInsertion_3 8 rfl rfl)
theorem dJ33_balanceInsertion_79 : decode cJ33_balanceInsertion 79 = .ok (.aload_n 3, 1) := dk_45 (dk_at dksJ33_balanceInsertion_3 11 rfl rfl)
theorem dJ33_balanceInsertion_80 : decode cJ33_balanceInsertion 80 = .ok (.iconst 1, 1) := dk_4 (dk_at dksJ33_balanceInsertion_3 12 rfl rfl)
theorem dJ33_balanceInsertion_81 : decode cJ33_balanceInsertion 81 = .ok (.putfield 93, 3) := dk_181 0 93 (dk_at dksJ33_balanceInsertion_3 13 rfl rfl)
theorem dJ33_balanceInsertion_84 : decode cJ33_balanceInsertion 84 = .ok (.aload_n 3, 1) := dk_45 (dk_at dksJ33_balanceInsertion_3 16 rfl rfl)
theorem dJ33_balanceInsertion_85 : decode cJ33_balanceInsertion 85 = .ok (.astore_n 1, 1) := dk_76 (dk_at dksJ33_balanceInsertion_3 17 rfl rfl)
theorem dJ33_balanceInsertion_86 : decode cJ33_balanceInsertion 86 = .ok (.goto (-81), 3) := dk_167 255 175 (dk_at dksJ33_balanceInsertion_3 18 rfl rfl)
theorem dJ33_balanceInsertion_89 : decode cJ33_balanceInsertion 89 = .ok (.aload_n 1, 1) := dk_43 (dk_at dksJ33_balanceInsertion_3 21 rfl rfl)
theorem dJ33_balanceInsertion_90 : decode cJ33_balanceInsertion 90 = .ok (.aload_n 2, 1) := dk_44 (dk_at dksJ33_balanceInsertion_3 22 rfl rfl)
theorem dJ33_balanceInsertion_91 : decode cJ33_balanceInsertion 91 = .ok (.getfield 42, 3) := dk_180 0 42 (dk_at dksJ33_balanceInsertion_4 0 rfl rfl)
theorem dJ33_balanceInsertion_94 : decode cJ33_balanceInsertion 94 = .ok (.if_acmp .ne 29, 3) := dk_166 0 29 (dk_at dksJ33_balanceInsertion_4 3 rfl rfl)
theorem dJ33_balanceInsertion_97 : decode cJ33_balanceInsertion 97 = .ok (.aload_n 0, 1) := dk_42 (dk_at dksJ33_balanceInsertion_4 6 rfl rfl)
theorem dJ33_balanceInsertion_98 : decode cJ33_balanceInsertion 98 = .ok (.aload_n 2, 1) := dk_44 (dk_at dksJ33_balanceInsertion_4 7 rfl rfl)
theorem dJ33_balanceInsertion_99 : decode cJ33_balanceInsertion 99 = .ok (.dup, 1) := dk_89 (dk_at dksJ33_balanceInsertion_4 8 rfl rfl)
theorem dJ33_balanceInsertion_100 : decode cJ33_balanceInsertion 100 = .ok (.astore_n 1, 1) := dk_76 (dk_at dksJ33_balanceInsertion_4 9 rfl rfl)
theorem dJ33_balanceInsertion_101 : decode cJ33_balanceInsertion 101 = .ok (.invokestatic 130, 3) := dk_184 0 130 (dk_at dksJ33_balanceInsertion_4 10 rfl rfl)
theorem dJ33_balanceInsertion_104 : decode cJ33_balanceInsertion 104 = .ok (.astore_n 0, 1) := dk_75 (dk_at dksJ33_balanceInsertion_4 13 rfl rfl)
theorem dJ33_balanceInsertion_105 : decode cJ33_balanceInsertion 105 = .ok (.aload_n 1, 1) := dk_43 (dk_at dksJ33_balanceInsertion_4 14 rfl rfl)
theorem dJ33_balanceInsertion_106 : decode cJ33_balanceInsertion 106 = .ok (.getfield 9, 3) := dk_180 0 9 (dk_at dksJ33_balanceInsertion_4 15 rfl rfl)
theorem dJ33_balanceInsertion_109 : decode cJ33_balanceInsertion 109 = .ok (.dup, 1) := dk_89 (dk_at dksJ33_balanceInsertion_4 18 rfl rfl)
theorem dJ33_balanceInsertion_110 : decode cJ33_balanceInsertion 110 = .ok (.astore_n 2, 1) := dk_77 (dk_at dksJ33_balanceInsertion_4 19 rfl rfl)
theorem dJ33_balanceInsertion_111 : decode cJ33_balanceInsertion 111 = .ok (.ifnonnull 7, 3) := dk_199 0 7 (dk_at dksJ33_balanceInsertion_4 20 rfl rfl)
theorem dJ33_balanceInsertion_114 : decode cJ33_balanceInsertion 114 = .ok (.aconst_null, 1) := dk_1 (dk_at dksJ33_balanceInsertion_4 23 rfl rfl)
theorem dJ33_balanceInsertion_115 : decode cJ33_balanceInsertion 115 = .ok (.goto 7, 3) := dk_167 0 7 (dk_at dksJ33_balanceInsertion_5 0 rfl rfl)
theorem dJ33_balanceInsertion_118 : decode cJ33_balanceInsertion 118 = .ok (.aload_n 2, 1) := dk_44 (dk_at dksJ33_balanceInsertion_5 3 rfl rfl)
theorem dJ33_balanceInsertion_119 : decode cJ33_balanceInsertion 119 = .ok (.getfield 9, 3) := dk_180 0 9 (dk_at dksJ33_balanceInsertion_5 4 rfl rfl)
theorem dJ33_balanceInsertion_122 : decode cJ33_balanceInsertion 122 = .ok (.astore_n 3, 1) := dk_78 (dk_at dksJ33_balanceInsertion_5 7 rfl rfl)
theorem dJ33_balanceInsertion_123 : decode cJ33_balanceInsertion 123 = .ok (.aload_n 2, 1) := dk_44 (dk_at dksJ33_balanceInsertion_5 8 rfl rfl)
theorem dJ33_balanceInsertion_124 : decode cJ33_balanceInsertion 124 = .ok (.ifnull (-119), 3) := dk_198 255 137 (dk_at dksJ33_balanceInsertion_5 9 rfl rfl)
theorem dJ33_balanceInsertion_127 : decode cJ33_balanceInsertion 127 = .ok (.aload_n 2, 1) := dk_44 (dk_at dksJ33_balanceInsertion_5 12 rfl rfl)
theorem dJ33_balanceInsertion_128 : decode cJ33_balanceInsertion 128 = .ok (.iconst 0, 1) := dk_3 (dk_at dksJ33_balanceInsertion_5 13 rfl rfl)
theorem dJ33_balanceInsertion_129 : decode cJ33_balanceInsertion 129 = .ok (.putfield 93, 3) := dk_181 0 93 (dk_at dksJ33_balanceInsertion_5 14 rfl rfl)
theorem dJ33_balanceInsertion_132 : decode cJ33_balanceInsertion 132 = .ok (.aload_n 3, 1) := dk_45 (dk_at dksJ33_balanceInsertion_5 17 rfl rfl)
theorem dJ33_balanceInsertion_133 : decode cJ33_balanceInsertion 133 = .ok (.ifnull (-128), 3) := dk_198 255 128 (dk_at dksJ33_balanceInsertion_5 18 rfl rfl)
theorem dJ33_balanceInsertion_136 : decode cJ33_balanceInsertion 136 = .ok (.aload_n 3, 1) := dk_45 (dk_at dksJ33_balanceInsertion_5 21 rfl rfl)
theorem dJ33_balanceInsertion_137 : decode cJ33_balanceInsertion 137 = .ok (.iconst 1, 1) := dk_4 (dk_at dksJ33_balanceInsertion_5 22 rfl rfl)
theorem dJ33_balanceInsertion_138 : decode cJ33_balanceInsertion 138 = .ok (.putfield 93, 3) := dk_181 0 93 (dk_at dksJ33_balanceInsertion_6 0 rfl rfl)
theorem dJ33_balanceInsertion_141 : decode cJ33_balanceInsertion 141 = .ok (.aload_n 0, 1) := dk_42 (dk_at dksJ33_balanceInsertion_6 3 rfl rfl)
theorem dJ33_balanceInsertion_142 : decode cJ33_balanceInsertion 142 = .ok (.aload_n 3, 1) := dk_45 (dk_at dksJ33_balanceInsertion_6 4 rfl rfl)
theorem dJ33_balanceInsertion_143 : decode cJ33_balanceInsertion 143 = .ok (.invokestatic 133, 3) := dk_184 0 133 (dk_at dksJ33_balanceInsertion_6 5 rfl rfl)
theorem dJ33_balanceInsertion_146 : decode cJ33_balanceInsertion 146 = .ok (.astore_n 0, 1) := dk_75 (dk_at dksJ33_balanceInsertion_6 8 rfl rfl)
theorem dJ33_balanceInsertion_147 : decode cJ33_balanceInsertion 147 = .ok (.goto (-142), 3) := dk_167 255 114 (dk_at dksJ33_balanceInsertion_6 9 rfl rfl)
theorem dJ33_balanceInsertion_150 : decode cJ33_balanceInsertion 150 = .ok (.aload 4, 2) := dk_25 4 (dk_at dksJ33_balanceInsertion_6 12 rfl rfl)
theorem dJ33_balanceInsertion_152 : decode cJ33_balanceInsertion 152 = .ok (.ifnull 32, 3) := dk_198 0 32 (dk_at dksJ33_balanceInsertion_6 14 rfl rfl)
theorem dJ33_balanceInsertion_155 : decode cJ33_balanceInsertion 155 = .ok (.aload 4, 2) := dk_25 4 (dk_at dksJ33_balanceInsertion_6 17 rfl rfl)
theorem dJ33_balanceInsertion_157 : decode cJ33_balanceInsertion 157 = .ok (.getfield 93, 3) := dk_180 0 93 (dk_at dksJ33_balanceInsertion_6 19 rfl rfl)
theorem dJ33_balanceInsertion_160 : decode cJ33_balanceInsertion 160 = .ok (.ifCond .eq 24, 3) := dk_153 0 24 (dk_at dksJ33_balanceInsertion_7 0 rfl rfl)
theorem dJ33_balanceInsertion_163 : decode cJ33_balanceInsertion 163 = .ok (.aload 4, 2) := dk_25 4 (dk_at dksJ33_balanceInsertion_7 3 rfl rfl)
theorem dJ33_balanceInsertion_165 : decode cJ33_balanceInsertion 165 = .ok (.iconst 0, 1) := dk_3 (dk_at dksJ33_balanceInsertion_7 5 rfl rfl)
theorem dJ33_balanceInsertion_166 : decode cJ33_balanceInsertion 166 = .ok (.putfield 93, 3) := dk_181 0 93 (dk_at dksJ33_balanceInsertion_7 6 rfl rfl)
theorem dJ33_balanceInsertion_169 : decode cJ33_balanceInsertion 169 = .ok (.aload_n 2, 1) := dk_44 (dk_at dksJ33_balanceInsertion_7 9 rfl rfl)
theorem dJ33_balanceInsertion_170 : decode cJ33_balanceInsertion 170 = .ok (.iconst 0, 1) := dk_3 (dk_at dksJ33_balanceInsertion_7 10 rfl rfl)
theorem dJ33_balanceInsertion_171 : decode cJ33_balanceInsertion 171 = .ok (.putfield 93, 3) := dk_181 0 93 (dk_at dksJ33_balanceInsertion_7 11 rfl rfl)
theorem dJ33_balanceInsertion_174 : decode cJ33_balanceInsertion 174 = .ok (.aload_n 3, 1) := dk_45 (dk_at dksJ33_balanceInsertion_7 14 rfl rfl)
theorem dJ33_balanceInsertion_175 : decode cJ33_balanceInsertion 175 = .ok (.iconst 1, 1) := dk_4 (dk_at dksJ33_balanceInsertion_7 15 rfl rfl)
theorem dJ33_balanceInsertion_176 : decode cJ33_balanceInsertion 176 = .ok (.putfield 93, 3) := dk_181 0 93 (dk_at dksJ33_balanceInsertion_7 16 rfl rfl)
theorem dJ33_balanceInsertion_179 : decode cJ33_balanceInsertion 179 = .ok (.aload_n 3, 1) := dk_45 (dk_at dksJ33_balanceInsertion_7 19 rfl rfl)
theorem dJ33_balanceInsertion_180 : decode cJ33_balanceInsertion 180 = .ok (.astore_n 1, 1) := dk_76 (dk_at dksJ33_balanceInsertion_7 20 rfl rfl)
theorem dJ33_balanceInsertion_181 : decode cJ33_balanceInsertion 181 = .ok (.goto (-176), 3) := dk_167 255 80 (dk_at dksJ33_balanceInsertion_7 21 rfl rfl)
theorem dJ33_balanceInsertion_184 : decode cJ33_balanceInsertion 184 = .ok (.aload_n 1, 1) := dk_43 (dk_at dksJ33_balanceInsertion_8 0 rfl rfl)
theorem dJ33_balanceInsertion_185 : decode cJ33_balanceInsertion 185 = .ok (.aload_n 2, 1) := dk_44 (dk_at dksJ33_balanceInsertion_8 1 rfl rfl)
theorem dJ33_balanceInsertion_186 : decode cJ33_balanceInsertion 186 = .ok (.getfield 39, 3) := dk_180 0 39 (dk_at dksJ33_balanceInsertion_8 2 rfl rfl)
theorem dJ33_balanceInsertion_189 : decode cJ33_balanceInsertion 189 = .ok (.if_acmp .ne 29, 3) := dk_166 0 29 (dk_at dksJ33_balanceInsertion_8 5 rfl rfl)
theorem dJ33_balanceInsertion_192 : decode cJ33_balanceInsertion 192 = .ok (.aload_n 0, 1) := dk_42 (dk_at dksJ33_balanceInsertion_8 8 rfl rfl)
theorem dJ33_balanceInsertion_193 : decode cJ33_balanceInsertion 193 = .ok (.aload_n 2, 1) := dk_44 (dk_at dksJ33_balanceInsertion_8 9 rfl rfl)
theorem dJ33_balanceInsertion_194 : decode cJ33_balanceInsertion 194 = .ok (.dup, 1) := dk_89 (dk_at dksJ33_balanceInsertion_8 10 rfl rfl)
theorem dJ33_balanceInsertion_195 : decode cJ33_balanceInsertion 195 = .ok (.astore_n 1, 1) := dk_76 (dk_at dksJ33_balanceInsertion_8 11 rfl rfl)
theorem dJ33_balanceInsertion_196 : decode cJ33_balanceInsertion 196 = .ok (.invokestatic 133, 3) := dk_184 0 133 (dk_at dksJ33_balanceInsertion_8 12 rfl rfl)
theorem dJ33_balanceInsertion_199 : decode cJ33_balanceInsertion 199 = .ok (.astore_n 0, 1) := dk_75 (dk_at dksJ33_balanceInsertion_8 15 rfl rfl)
theorem dJ33_balanceInsertion_200 : decode cJ33_balanceInsertion 200 = .ok (.aload_n 1, 1) := dk_43 (dk_at dksJ33_balanceInsertion_8 16 rfl rfl)
theorem dJ33_balanceInsertion_201 : decode cJ33_balanceInsertion 201 = .ok (.getfield 9, 3) := dk_180 0 9 (dk_at dksJ33_balanceInsertion_8 17 rfl rfl)
theorem dJ33_balanceInsertion_204 : decode cJ33_balanceInsertion 204 = .ok (.dup, 1) := dk_89 (dk_at dksJ33_balanceInsertion_8 20 rfl rfl)
theorem dJ33_balanceInsertion_205 : decode cJ33_balanceInsertion 205 = .ok (.astore_n 2, 1) := dk_77 (dk_at dksJ33_balanceInsertion_8 21 rfl rfl)
theorem dJ33_balanceInsertion_206 : decode cJ33_balanceInsertion 206 = .ok (.ifnonnull 7, 3) := dk_199 0 7 (dk_at dksJ33_balanceInsertion_9 0 rfl rfl)
theorem dJ33_balanceInsertion_209 : decode cJ33_balanceInsertion 209 = .ok (.aconst_null, 1) := dk_1 (dk_at dksJ33_balanceInsertion_9 3 rfl rfl)
theorem dJ33_balanceInsertion_210 : decode cJ33_balanceInsertion 210 = .ok (.goto 7, 3) := dk_167 0 7 (dk_at dksJ33_balanceInsertion_9 4 rfl rfl)
theorem dJ33_balanceInsertion_213 : decode cJ33_balanceInsertion 213 = .ok (.aload_n 2, 1) := dk_44 (dk_at dksJ33_balanceInsertion_9 7 rfl rfl)
theorem dJ33_balanceInsertion_214 : decode cJ33_balanceInsertion 214 = .ok (.getfield 9, 3) := dk_180 0 9 (dk_at dksJ33_balanceInsertion_9 8 rfl rfl)
theorem dJ33_balanceInsertion_217 : decode cJ33_balanceInsertion 217 = .ok (.astore_n 3, 1) := dk_78 (dk_at dksJ33_balanceInsertion_9 11 rfl rfl)
theorem dJ33_balanceInsertion_218 : decode cJ33_balanceInsertion 218 = .ok (.aload_n 2, 1) := dk_44 (dk_at dksJ33_balanceInsertion_9 12 rfl rfl)
theorem dJ33_balanceInsertion_219 : decode cJ33_balanceInsertion 219 = .ok (.ifnull (-214), 3) := dk_198 255 42 (dk_at dksJ33_balanceInsertion_9 13 rfl rfl)
theorem dJ33_balanceInsertion_222 : decode cJ33_balanceInsertion 222 = .ok (.aload_n 2, 1) := dk_44 (dk_at dksJ33_balanceInsertion_9 16 rfl rfl)
theorem dJ33_balanceInsertion_223 : decode cJ33_balanceInsertion 223 = .ok (.iconst 0, 1) := dk_3 (dk_at dksJ33_balanceInsertion_9 17 rfl rfl)
theorem dJ33_balanceInsertion_224 : decode cJ33_balanceInsertion 224 = .ok (.putfield 93, 3) := dk_181 0 93 (dk_at dksJ33_balanceInsertion_9 18 rfl rfl)
theorem dJ33_balanceInsertion_227 : decode cJ33_balanceInsertion 227 = .ok (.aload_n 3, 1) := dk_45 (dk_at dksJ33_balanceInsertion_9 21 rfl rfl)
theorem dJ33_balanceInsertion_228 : decode cJ33_balanceInsertion 228 = .ok (.ifnull (-223), 3) := dk_198 255 33 (dk_at dksJ33_balanceInsertion_10 0 rfl rfl)
theorem dJ33_balanceInsertion_231 : decode cJ33_balanceInsertion 231 = .ok (.aload_n 3, 1) := dk_45 (dk_at dksJ33_balanceInsertion_10 3 rfl rfl)
theorem dJ33_balanceInsertion_232 : decode cJ33_balanceInsertion 232 = .ok (.iconst 1, 1) := dk_4 (dk_at dksJ33_balanceInsertion_10 4 rfl rfl)
theorem dJ33_balanceInsertion_233 : decode cJ33_balanceInsertion 233 = .ok (.putfield 93, 3) := dk_181 0 93 (dk_at dksJ33_balanceInsertion_10 5 rfl rfl)
theorem dJ33_balanceInsertion_236 : decode cJ33_balanceInsertion 236 = .ok (.aload_n 0, 1) := dk_42 (dk_at dksJ33_balanceInsertion_10 8 rfl rfl)
theorem dJ33_balanceInsertion_237 : decode cJ33_balanceInsertion 237 = .ok (.aload_n 3, 1) := dk_45 (dk_at dksJ33_balanceInsertion_10 9 rfl rfl)
theorem dJ33_balanceInsertion_238 : decode cJ33_balanceInsertion 238 = .ok (.invokestatic 130, 3) := dk_184 0 130 (dk_at dksJ33_balanceInsertion_10 10 rfl rfl)
theorem dJ33_balanceInsertion_241 : decode cJ33_balanceInsertion 241 = .ok (.astore_n 0, 1) := dk_75 (dk_at dksJ33_balanceInsertion_10 13 rfl rfl)
theorem dJ33_balanceInsertion_242 : decode cJ33_balanceInsertion 242 = .ok (.goto (-237), 3) := dk_167 255 19 (dk_at dksJ33_balanceInsertion_10 14 rfl rfl)
abbrev cJ33_rotateLeft : ByteArray := prog_46_method_12_code
def yJ33_rotateLeft : MethodName := ⟨RJ33, "rotateLeft", "(Ljava/util/HashMap$TreeNode;Ljava/util/HashMap$TreeNode;)Ljava/util/HashMap$TreeNode;"⟩
def dkwJ33_rotateLeft_3 : List UInt8 := [181, 0, 39, 167, 0, 8, 45, 44, 181, 0, 42, 44, 43, 181, 0, 39, 43, 44, 181, 0, 9, 42, 176]
abbrev dktJ33_rotateLeft_3 : List UInt8 := dkwJ33_rotateLeft_3 ++ []
def dkwJ33_rotateLeft_2 : List UInt8 := [199, 0, 13, 44, 89, 75, 3, 181, 0, 93, 167, 0, 24, 45, 180, 0, 39, 43, 166, 0, 11, 45, 44]
abbrev dktJ33_rotateLeft_2 : List UInt8 := dkwJ33_rotateLeft_2 ++ dktJ33_rotateLeft_3
def dkwJ33_rotateLeft_1 : List UInt8 := [58, 4, 198, 0, 9, 25, 4, 43, 181, 0, 9, 44, 43, 180, 0, 9, 90, 181, 0, 9, 89, 78]
abbrev dktJ33_rotateLeft_1 : List UInt8 := dkwJ33_rotateLeft_1 ++ dktJ33_rotateLeft_2
def dkwJ33_rotateLeft_0 : List UInt8 := [43, 198, 0, 88, 43, 180, 0, 42, 89, 77, 198, 0, 79, 43, 44, 180, 0, 39, 90, 181, 0, 42, 89]
abbrev dktJ33_rotateLeft_0 : List UInt8 := dkwJ33_rotateLeft_0 ++ dktJ33_rotateLeft_1
theorem dksJ33_rotateLeft_0 : cJ33_rotateLeft.data.toList.drop 0 = dktJ33_rotateLeft_0 := by decide +kernel
theorem dksJ33_rotateLeft_1 : cJ33_rotateLeft.data.toList.drop 23 = dktJ33_rotateLeft_1 := dk_seg dksJ33_rotateLeft_0 23 rfl rfl
theorem dksJ33_rotateLeft_2 : cJ33_rotateLeft.data.toList.drop 45 = dktJ33_rotateLeft_2 := dk_seg dksJ33_rotateLeft_1 22 rfl rfl
theorem dksJ33_rotateLeft_3 : cJ33_rotateLeft.data.toList.drop 68 = dktJ33_rotateLeft_3 := dk_seg dksJ33_rotateLeft_2 23 rfl rfl
theorem dJ33_rotateLeft_0 : decode cJ33_rotateLeft 0 = .ok (.aload_n 1, 1) := dk_43 (dk_at dksJ33_rotateLeft_0 0 rfl rfl)
theorem dJ33_rotateLeft_1 : decode cJ33_rotateLeft 1 = .ok (.ifnull 88, 3) := dk_198 0 88 (dk_at dksJ33_rotateLeft_0 1 rfl rfl)
theorem dJ33_rotateLeft_4 : decode cJ33_rotateLeft 4 = .ok (.aload_n 1, 1) := dk_43 (dk_at dksJ33_rotateLeft_0 4 rfl rfl)
theorem dJ33_rotateLeft_5 : decode cJ33_rotateLeft 5 = .ok (.getfield 42, 3) := dk_180 0 42 (dk_at dksJ33_rotateLeft_0 5 rfl rfl)
theorem dJ33_rotateLeft_8 : decode cJ33_rotateLeft 8 = .ok (.dup, 1) := dk_89 (dk_at dksJ33_rotateLeft_0 8 rfl rfl)
theorem dJ33_rotateLeft_9 : decode cJ33_rotateLeft 9 = .ok (.astore_n 2, 1) := dk_77 (dk_at dksJ33_rotateLeft_0 9 rfl rfl)
theorem dJ33_rotateLeft_10 : decode cJ33_rotateLeft 10 = .ok (.ifnull 79, 3) := dk_198 0 79 (dk_at dksJ33_rotateLeft_0 10 rfl rfl)
theorem dJ33_rotateLeft_13 : decode cJ33_rotateLeft 13 = .ok (.aload_n 1, 1) := dk_43 (dk_at dksJ33_rotateLeft_0 13 rfl rfl)
theorem dJ33_rotateLeft_14 : decode cJ33_rotateLeft 14 = .ok (.aload_n 2, 1) := dk_44 (dk_at dksJ33_rotateLeft_0 14 rfl rfl)
theorem dJ33_rotateLeft_15 : decode cJ33_rotateLeft 15 = .ok (.getfield 39, 3) := dk_180 0 39 (dk_at dksJ33_rotateLeft_0 15 rfl rfl)
theorem dJ33_rotateLeft_18 : decode cJ33_rotateLeft 18 = .ok (.dup_x1, 1) := dk_90 (dk_at dksJ33_rotateLeft_0 18 rfl rfl)
theorem dJ33_rotateLeft_19 : decode cJ33_rotateLeft 19 = .ok (.putfield 42, 3) := dk_181 0 42 (dk_at dksJ33_rotateLeft_0 19 rfl rfl)
theorem dJ33_rotateLeft_22 : decode cJ33_rotateLeft 22 = .ok (.dup, 1) := dk_89 (dk_at dksJ33_rotateLeft_0 22 rfl rfl)
theorem dJ33_rotateLeft_23 : decode cJ33_rotateLeft 23 = .ok (.astore 4, 2) := dk_58 4 (dk_at dksJ33_rotateLeft_1 0 rfl rfl)
theorem dJ33_rotateLeft_25 : decode cJ33_rotateLeft 25 = .ok (.ifnull 9, 3) := dk_198 0 9 (dk_at dksJ33_rotateLeft_1 2 rfl rfl)
theorem dJ33_rotateLeft_28 : decode cJ33_rotateLeft 28 = .ok (.aload 4, 2) := dk_25 4 (dk_at dksJ33_rotateLeft_1 5 rfl rfl)
theorem dJ33_rotateLeft_30 : decode cJ33_rotateLeft 30 = .ok (.aload_n 1, 1) := dk_43 (dk_at dksJ33_rotateLeft_1 7 rfl rfl)
theorem dJ33_rotateLeft_31 : decode cJ33_rotateLeft 31 = .ok (.putfield 9, 3) := dk_181 0 9 (dk_at dksJ33_rotateLeft_1 8 rfl rfl)
theorem dJ33_rotateLeft_34 : decode cJ33_rotateLeft 34 = .ok (.aload_n 2, 1) := dk_44 (dk_at dksJ33_rotateLeft_1 11 rfl rfl)
theorem dJ33_rotateLeft_35 : decode cJ33_rotateLeft 35 = .ok (.aload_n 1, 1) := dk_43 (dk_at dksJ33_rotateLeft_1 12 rfl rfl)
theorem dJ33_rotateLeft_36 : decode cJ33_rotateLeft 36 = .ok (.getfield 9, 3) := dk_180 0 9 (dk_at dksJ33_rotateLeft_1 13 rfl rfl)
theorem dJ33_rotateLeft_39 : decode cJ33_rotateLeft 39 = .ok (.dup_x1, 1) := dk_90 (dk_at dksJ33_rotateLeft_1 16 rfl rfl)
theorem dJ33_rotateLeft_40 : decode cJ33_rotateLeft 40 = .ok (.putfield 9, 3) := dk_181 0 9 (dk_at dksJ33_rotateLeft_1 17 rfl rfl)
theorem dJ33_rotateLeft_43 : decode cJ33_rotateLeft 43 = .ok (.dup, 1) := dk_89 (dk_at dksJ33_rotateLeft_1 20 rfl rfl)
theorem dJ33_rotateLeft_44 : decode cJ33_rotateLeft 44 = .ok (.astore_n 3, 1) := dk_78 (dk_at dksJ33_rotateLeft_1 21 rfl rfl)
theorem dJ33_rotateLeft_45 : decode cJ33_rotateLeft 45 = .ok (.ifnonnull 13, 3) := dk_199 0 13 (dk_at dksJ33_rotateLeft_2 0 rfl rfl)
theorem dJ33_rotateLeft_48 : decode cJ33_rotateLeft 48 = .ok (.aload_n 2, 1) := dk_44 (dk_at dksJ33_rotateLeft_2 3 rfl rfl)
theorem dJ33_rotateLeft_49 : decode cJ33_rotateLeft 49 = .ok (.dup, 1) := dk_89 (dk_at dksJ33_rotateLeft_2 4 rfl rfl)
theorem dJ33_rotateLeft_50 : decode cJ33_rotateLeft 50 = .ok (.astore_n 0, 1) := dk_75 (dk_at dksJ33_rotateLeft_2 5 rfl rfl)
theorem dJ33_rotateLeft_51 : decode cJ33_rotateLeft 51 = .ok (.iconst 0, 1) := dk_3 (dk_at dksJ33_rotateLeft_2 6 rfl rfl)
theorem dJ33_rotateLeft_52 : decode cJ33_rotateLeft 52 = .ok (.putfield 93, 3) := dk_181 0 93 (dk_at dksJ33_rotateLeft_2 7 rfl rfl)
theorem dJ33_rotateLeft_55 : decode cJ33_rotateLeft 55 = .ok (.goto 24, 3) := dk_167 0 24 (dk_at dksJ33_rotateLeft_2 10 rfl rfl)
theorem dJ33_rotateLeft_58 : decode cJ33_rotateLeft 58 = .ok (.aload_n 3, 1) := dk_45 (dk_at dksJ33_rotateLeft_2 13 rfl rfl)
theorem dJ33_rotateLeft_59 : decode cJ33_rotateLeft 59 = .ok (.getfield 39, 3) := dk_180 0 39 (dk_at dksJ33_rotateLeft_2 14 rfl rfl)
theorem dJ33_rotateLeft_62 : decode cJ33_rotateLeft 62 = .ok (.aload_n 1, 1) := dk_43 (dk_at dksJ33_rotateLeft_2 17 rfl rfl)
theorem dJ33_rotateLeft_63 : decode cJ33_rotateLeft 63 = .ok (.if_acmp .ne 11, 3) := dk_166 0 11 (dk_at dksJ33_rotateLeft_2 18 rfl rfl)
theorem dJ33_rotateLeft_66 : decode cJ33_rotateLeft 66 = .ok (.aload_n 3, 1) := dk_45 (dk_at dksJ33_rotateLeft_2 21 rfl rfl)
theorem dJ33_rotateLeft_67 : decode cJ33_rotateLeft 67 = .ok (.aload_n 2, 1) := dk_44 (dk_at dksJ33_rotateLeft_2 22 rfl rfl)
theorem dJ33_rotateLeft_68 : decode cJ33_rotateLeft 68 = .ok (.putfield 39, 3) := dk_181 0 39 (dk_at dksJ33_rotateLeft_3 0 rfl rfl)
theorem dJ33_rotateLeft_71 : decode cJ33_rotateLeft 71 = .ok (.goto 8, 3) := dk_167 0 8 (dk_at dksJ33_rotateLeft_3 3 rfl rfl)
theorem dJ33_rotateLeft_74 : decode cJ33_rotateLeft 74 = .ok (.aload_n 3, 1) := dk_45 (dk_at dksJ33_rotateLeft_3 6 rfl rfl)
theorem dJ33_rotateLeft_75 : decode cJ33_rotateLeft 75 = .ok (.aload_n 2, 1) := dk_44 (dk_at dksJ33_rotateLeft_3 7 rfl rfl)
theorem dJ33_rotateLeft_76 : decode cJ33_rotateLeft 76 = .ok (.putfield 42, 3) := dk_181 0 42 (dk_at dksJ33_rotateLeft_3 8 rfl rfl)
theorem dJ33_rotateLeft_79 : decode cJ33_rotateLeft 79 = .ok (.aload_n 2, 1) := dk_44 (dk_at dksJ33_rotateLeft_3 11 rfl rfl)
theorem dJ33_rotateLeft_80 : decode cJ33_rotateLeft 80 = .ok (.aload_n 1, 1) := dk_43 (dk_at dksJ33_rotateLeft_3 12 rfl rfl)
theorem dJ33_rotateLeft_81 : decode cJ33_rotateLeft 81 = .ok (.putfield 39, 3) := dk_181 0 39 (dk_at dksJ33_rotateLeft_3 13 rfl rfl)
theorem dJ33_rotateLeft_84 : decode cJ33_rotateLeft 84 = .ok (.aload_n 1, 1) := dk_43 (dk_at dksJ33_rotateLeft_3 16 rfl rfl)
theorem dJ33_rotateLeft_85 : decode cJ33_rotateLeft 85 = .ok (.aload_n 2, 1) := dk_44 (dk_at dksJ33_rotateLeft_3 17 rfl rfl)
theorem dJ33_rotateLeft_86 : decode cJ33_rotateLeft 86 = .ok (.putfield 9, 3) := dk_181 0 9 (dk_at dksJ33_rotateLeft_3 18 rfl rfl)
theorem dJ33_rotateLeft_89 : decode cJ33_rotateLeft 89 = .ok (.aload_n 0, 1) := dk_42 (dk_at dksJ33_rotateLeft_3 21 rfl rfl)
theorem dJ33_rotateLeft_90 : decode cJ33_rotateLeft 90 = .ok (.areturn, 1) := dk_176 (dk_at dksJ33_rotateLeft_3 22 rfl rfl)
abbrev cJ33_rotateRight : ByteArray := prog_46_method_13_code
def yJ33_rotateRight : MethodName := ⟨RJ33, "rotateRight", "(Ljava/util/HashMap$TreeNode;Ljava/util/HashMap$TreeNode;)Ljava/util/HashMap$TreeNode;"⟩
def dkwJ33_rotateRight_3 : List UInt8 := [181, 0, 42, 167, 0, 8, 45, 44, 181, 0, 39, 44, 43, 181, 0, 42, 43, 44, 181, 0, 9, 42, 176]
abbrev dktJ33_rotateRight_3 : List UInt8 := dkwJ33_rotateRight_3 ++ []
def dkwJ33_rotateRight_2 : List UInt8 := [199, 0, 13, 44, 89, 75, 3, 181, 0, 93, 167, 0, 24, 45, 180, 0, 42, 43, 166, 0, 11, 45, 44]
abbrev dktJ33_rotateRight_2 : List UInt8 := dkwJ33_rotateRight_2 ++ dktJ33_rotateRight_3
def dkwJ33_rotateRight_1 : List UInt8 := [58, 4, 198, 0, 9, 25, 4, 43, 181, 0, 9, 44, 43, 180, 0, 9, 90, 181, 0, 9, 89, 78]
abbrev dktJ33_rotateRight_1 : List UInt8 := dkwJ33_rotateRight_1 ++ dktJ33_rotateRight_2
def dkwJ33_rotateRight_0 : List UInt8 := [43, 198, 0, 88, 43, 180, 0, 39, 89, 77, 198, 0, 79, 43, 44, 180, 0, 42, 90, 181, 0, 39, 89]
abbrev dktJ33_rotateRight_0 : List UInt8 := dkwJ33_rotateRight_0 ++ dktJ33_rotateRight_1
theorem dksJ33_rotateRight_0 : cJ33_rotateRight.data.toList.drop 0 = dktJ33_rotateRight_0 := by decide +kernel
theorem dksJ33_rotateRight_1 : cJ33_rotateRight.data.toList.drop 23 = dktJ33_rotateRight_1 := dk_seg dksJ33_rotateRight_0 23 rfl rfl
theorem dksJ33_rotateRight_2 : cJ33_rotateRight.data.toList.drop 45 = dktJ33_rotateRight_2 := dk_seg dksJ33_rotateRight_1 22 rfl rfl
theorem dksJ33_rotateRight_3 : cJ33_rotateRight.data.toList.drop 68 = dktJ33_rotateRight_3 := dk_seg dksJ33_rotateRight_2 23 rfl rfl
theorem dJ33_rotateRight_0 : decode cJ33_rotateRight 0 = .ok (.aload_n 1, 1) := dk_43 (dk_at dksJ33_rotateRight_0 0 rfl rfl)
theorem dJ33_rotateRight_1 : decode cJ33_rotateRight 1 = .ok (.ifnull 88, 3) := dk_198 0 88 (dk_at dksJ33_rotateRight_0 1 rfl rfl)
theorem dJ33_rotateRight_4 : decode cJ33_rotateRight 4 = .ok (.aload_n 1, 1) := dk_43 (dk_at dksJ33_rotateRight_0 4 rfl rfl)
theorem dJ33_rotateRight_5 : decode cJ33_rotateRight 5 = .ok (.getfield 39, 3) := dk_180 0 39 (dk_at dksJ33_rotateRight_0 5 rfl rfl)
theorem dJ33_rotateRight_8 : decode cJ33_rotateRight 8 = .ok (.dup, 1) := dk_89 (dk_at dksJ33_rotateRight_0 8 rfl rfl)
theorem dJ33_rotateRight_9 : decode cJ33_rotateRight 9 = .ok (.astore_n 2, 1) := dk_77 (dk_at dksJ33_rotateRight_0 9 rfl rfl)
theorem dJ33_rotateRight_10 : decode cJ33_rotateRight 10 = .ok (.ifnull 79, 3) := dk_198 0 79 (dk_at dksJ33_rotateRight_0 10 rfl rfl)
theorem dJ33_rotateRight_13 : decode cJ33_rotateRight 13 = .ok (.aload_n 1, 1) := dk_43 (dk_at dksJ33_rotateRight_0 13 rfl rfl)
theorem dJ33_rotateRight_14 : decode cJ33_rotateRight 14 = .ok (.aload_n 2, 1) := dk_44 (dk_at dksJ33_rotateRight_0 14 rfl rfl)
theorem dJ33_rotateRight_15 : decode cJ33_rotateRight 15 = .ok (.getfield 42, 3) := dk_180 0 42 (dk_at dksJ33_rotateRight_0 15 rfl rfl)
theorem dJ33_rotateRight_18 : decode cJ33_rotateRight 18 = .ok (.dup_x1, 1) := dk_90 (dk_at dksJ33_rotateRight_0 18 rfl rfl)
theorem dJ33_rotateRight_19 : decode cJ33_rotateRight 19 = .ok (.putfield 39, 3) := dk_181 0 39 (dk_at dksJ33_rotateRight_0 19 rfl rfl)
theorem dJ33_rotateRight_22 : decode cJ33_rotateRight 22 = .ok (.dup, 1) := dk_89 (dk_at dksJ33_rotateRight_0 22 rfl rfl)
theorem dJ33_rotateRight_23 : decode cJ33_rotateRight 23 = .ok (.astore 4, 2) := dk_58 4 (dk_at dksJ33_rotateRight_1 0 rfl rfl)
theorem dJ33_rotateRight_25 : decode cJ33_rotateRight 25 = .ok (.ifnull 9, 3) := dk_198 0 9 (dk_at dksJ33_rotateRight_1 2 rfl rfl)
theorem dJ33_rotateRight_28 : decode cJ33_rotateRight 28 = .ok (.aload 4, 2) := dk_25 4 (dk_at dksJ33_rotateRight_1 5 rfl rfl)
theorem dJ33_rotateRight_30 : decode cJ33_rotateRight 30 = .ok (.aload_n 1, 1) := dk_43 (dk_at dksJ33_rotateRight_1 7 rfl rfl)
theorem dJ33_rotateRight_31 : decode cJ33_rotateRight 31 = .ok (.putfield 9, 3) := dk_181 0 9 (dk_at dksJ33_rotateRight_1 8 rfl rfl)
theorem dJ33_rotateRight_34 : decode cJ33_rotateRight 34 = .ok (.aload_n 2, 1) := dk_44 (dk_at dksJ33_rotateRight_1 11 rfl rfl)
theorem dJ33_rotateRight_35 : decode cJ33_rotateRight 35 = .ok (.aload_n 1, 1) := dk_43 (dk_at dksJ33_rotateRight_1 12 rfl rfl)
theorem dJ33_rotateRight_36 : decode cJ33_rotateRight 36 = .ok (.getfield 9, 3) := dk_180 0 9 (dk_at dksJ33_rotateRight_1 13 rfl rfl)
theorem dJ33_rotateRight_39 : decode cJ33_rotateRight 39 = .ok (.dup_x1, 1) := dk_90 (dk_at dksJ33_rotateRight_1 16 rfl rfl)
theorem dJ33_rotateRight_40 : decode cJ33_rotateRight 40 = .ok (.putfield 9, 3) := dk_181 0 9 (dk_at dksJ33_rotateRight_1 17 rfl rfl)
theorem dJ33_rotateRight_43 : decode cJ33_rotateRight 43 = .ok (.dup, 1) := dk_89 (dk_at dksJ33_rotateRight_1 20 rfl rfl)
theorem dJ33_rotateRight_44 : decode cJ33_rotateRight 44 = .ok (.astore_n 3, 1) := dk_78 (dk_at dksJ33_rotateRight_1 21 rfl rfl)
theorem dJ33_rotateRight_45 : decode cJ33_rotateRight 45 = .ok (.ifnonnull 13, 3) := dk_199 0 13 (dk_at dksJ33_rotateRight_2 0 rfl rfl)
theorem dJ33_rotateRight_48 : decode cJ33_rotateRight 48 = .ok (.aload_n 2, 1) := dk_44 (dk_at dksJ33_rotateRight_2 3 rfl rfl)
theorem dJ33_rotateRight_49 : decode cJ33_rotateRight 49 = .ok (.dup, 1) := dk_89 (dk_at dksJ33_rotateRight_2 4 rfl rfl)
theorem dJ33_rotateRight_50 : decode cJ33_rotateRight 50 = .ok (.astore_n 0, 1) := dk_75 (dk_at dksJ33_rotateRight_2 5 rfl rfl)
theorem dJ33_rotateRight_51 : decode cJ33_rotateRight 51 = .ok (.iconst 0, 1) := dk_3 (dk_at dksJ33_rotateRight_2 6 rfl rfl)
theorem dJ33_rotateRight_52 : decode cJ33_rotateRight 52 = .ok (.putfield 93, 3) := dk_181 0 93 (dk_at dksJ33_rotateRight_2 7 rfl rfl)
theorem dJ33_rotateRight_55 : decode cJ33_rotateRight 55 = .ok (.goto 24, 3) := dk_167 0 24 (dk_at dksJ33_rotateRight_2 10 rfl rfl)
theorem dJ33_rotateRight_58 : decode cJ33_rotateRight 58 = .ok (.aload_n 3, 1) := dk_45 (dk_at dksJ33_rotateRight_2 13 rfl rfl)
theorem dJ33_rotateRight_59 : decode cJ33_rotateRight 59 = .ok (.getfield 42, 3) := dk_180 0 42 (dk_at dksJ33_rotateRight_2 14 rfl rfl)
theorem dJ33_rotateRight_62 : decode cJ33_rotateRight 62 = .ok (.aload_n 1, 1) := dk_43 (dk_at dksJ33_rotateRight_2 17 rfl rfl)
theorem dJ33_rotateRight_63 : decode cJ33_rotateRight 63 = .ok (.if_acmp .ne 11, 3) := dk_166 0 11 (dk_at dksJ33_rotateRight_2 18 rfl rfl)
theorem dJ33_rotateRight_66 : decode cJ33_rotateRight 66 = .ok (.aload_n 3, 1) := dk_45 (dk_at dksJ33_rotateRight_2 21 rfl rfl)
theorem dJ33_rotateRight_67 : decode cJ33_rotateRight 67 = .ok (.aload_n 2, 1) := dk_44 (dk_at dksJ33_rotateRight_2 22 rfl rfl)
theorem dJ33_rotateRight_68 : decode cJ33_rotateRight 68 = .ok (.putfield 42, 3) := dk_181 0 42 (dk_at dksJ33_rotateRight_3 0 rfl rfl)
theorem dJ33_rotateRight_71 : decode cJ33_rotateRight 71 = .ok (.goto 8, 3) := dk_167 0 8 (dk_at dksJ33_rotateRight_3 3 rfl rfl)
theorem dJ33_rotateRight_74 : decode cJ33_rotateRight 74 = .ok (.aload_n 3, 1) := dk_45 (dk_at dksJ33_rotateRight_3 6 rfl rfl)
theorem dJ33_rotateRight_75 : decode cJ33_rotateRight 75 = .ok (.aload_n 2, 1) := dk_44 (dk_at dksJ33_rotateRight_3 7 rfl rfl)
theorem dJ33_rotateRight_76 : decode cJ33_rotateRight 76 = .ok (.putfield 39, 3) := dk_181 0 39 (dk_at dksJ33_rotateRight_3 8 rfl rfl)
theorem dJ33_rotateRight_79 : decode cJ33_rotateRight 79 = .ok (.aload_n 2, 1) := dk_44 (dk_at dksJ33_rotateRight_3 11 rfl rfl)
theorem dJ33_rotateRight_80 : decode cJ33_rotateRight 80 = .ok (.aload_n 1, 1) := dk_43 (dk_at dksJ33_rotateRight_3 12 rfl rfl)
theorem dJ33_rotateRight_81 : decode cJ33_rotateRight 81 = .ok (.putfield 42, 3) := dk_181 0 42 (dk_at dksJ33_rotateRight_3 13 rfl rfl)
theorem dJ33_rotateRight_84 : decode cJ33_rotateRight 84 = .ok (.aload_n 1, 1) := dk_43 (dk_at dksJ33_rotateRight_3 16 rfl rfl)
theorem dJ33_rotateRight_85 : decode cJ33_rotateRight 85 = .ok (.aload_n 2, 1) := dk_44 (dk_at dksJ33_rotateRight_3 17 rfl rfl)
theorem dJ33_rotateRight_86 : decode cJ33_rotateRight 86 = .ok (.putfield 9, 3) := dk_181 0 9 (dk_at dksJ33_rotateRight_3 18 rfl rfl)
theorem dJ33_rotateRight_89 : decode cJ33_rotateRight 89 = .ok (.aload_n 0, 1) := dk_42 (dk_at dksJ33_rotateRight_3 21 rfl rfl)
theorem dJ33_rotateRight_90 : decode cJ33_rotateRight 90 = .ok (.areturn, 1) := dk_176 (dk_at dksJ33_rotateRight_3 22 rfl rfl)
abbrev cJ33_moveRootToFront : ByteArray := prog_46_method_3_code
def yJ33_moveRootToFront : MethodName := ⟨RJ33, "moveRootToFront", "([Ljava/util/HashMap$Node;Ljava/util/HashMap$TreeNode;)V"⟩
def dkwJ33_moveRootToFront_5 : List UInt8 := [89, 183, 0, 36, 191, 177]
abbrev dktJ33_moveRootToFront_5 : List UInt8 := dkwJ33_moveRootToFront_5 ++ []
def dkwJ33_moveRootToFront_4 : List UInt8 := [181, 0, 22, 43, 1, 181, 0, 19, 178, 0, 26, 154, 0, 18, 43, 184, 0, 30, 154, 0, 11, 187, 0, 34]
abbrev dktJ33_moveRootToFront_4 : List UInt8 := dkwJ33_moveRootToFront_4 ++ dktJ33_moveRootToFront_5
def dkwJ33_moveRootToFront_3 : List UInt8 := [198, 0, 10, 25, 6, 25, 5, 181, 0, 22, 25, 4, 198, 0, 9, 25, 4, 43, 181, 0, 19, 43, 25, 4]
abbrev dktJ33_moveRootToFront_3 : List UInt8 := dkwJ33_moveRootToFront_3 ++ dktJ33_moveRootToFront_4
def dkwJ33_moveRootToFront_2 : List UInt8 := [43, 180, 0, 22, 89, 58, 5, 198, 0, 13, 25, 5, 192, 0, 10, 25, 6, 181, 0, 19, 25, 6]
abbrev dktJ33_moveRootToFront_2 : List UInt8 := dkwJ33_moveRootToFront_2 ++ dktJ33_moveRootToFront_3
def dkwJ33_moveRootToFront_1 : List UInt8 := [42, 29, 50, 192, 0, 10, 58, 4, 43, 25, 4, 165, 0, 67, 42, 29, 43, 83, 43, 180, 0, 19, 58, 6]
abbrev dktJ33_moveRootToFront_1 : List UInt8 := dkwJ33_moveRootToFront_1 ++ dktJ33_moveRootToFront_2
def dkwJ33_moveRootToFront_0 : List UInt8 := [43, 198, 0, 122, 42, 198, 0, 118, 42, 190, 89, 61, 158, 0, 111, 28, 4, 100, 43, 180, 0, 15, 126, 62]
abbrev dktJ33_moveRootToFront_0 : List UInt8 := dkwJ33_moveRootToFront_0 ++ dktJ33_moveRootToFront_1
theorem dksJ33_moveRootToFront_0 : cJ33_moveRootToFront.data.toList.drop 0 = dktJ33_moveRootToFront_0 := by decide +kernel
theorem dksJ33_moveRootToFront_1 : cJ33_moveRootToFront.data.toList.drop 24 = dktJ33_moveRootToFront_1 := dk_seg dksJ33_moveRootToFront_0 24 rfl rfl
theorem dksJ33_moveRootToFront_2 : cJ33_moveRootToFront.data.toList.drop 48 = dktJ33_moveRootToFront_2 := dk_seg dksJ33_moveRootToFront_1 24 rfl rfl
theorem dksJ33_moveRootToFront_3 : cJ33_moveRootToFront.data.toList.drop 70 = dktJ33_moveRootToFront_3 := dk_seg dksJ33_moveRootToFront_2 22 rfl rfl
theorem dksJ33_moveRootToFront_4 : cJ33_moveRootToFront.data.toList.drop 94 = dktJ33_moveRootToFront_4 := dk_seg dksJ33_moveRootToFront_3 24 rfl rfl
theorem dksJ33_moveRootToFront_5 : cJ33_moveRootToFront.data.toList.drop 118 = dktJ33_moveRootToFront_5 := dk_seg dksJ33_moveRootToFront_4 24 rfl rfl
theorem dJ33_moveRootToFront_0 : decode cJ33_moveRootToFront 0 = .ok (.aload_n 1, 1) := dk_43 (dk_at dksJ33_moveRootToFront_0 0 rfl rfl)
theorem dJ33_moveRootToFront_1 : decode cJ33_moveRootToFront 1 = .ok (.ifnull 122, 3) := dk_198 0 122 (dk_at dksJ33_moveRootToFront_0 1 rfl rfl)
theorem dJ33_moveRootToFront_4 : decode cJ33_moveRootToFront 4 = .ok (.aload_n 0, 1) := dk_42 (dk_at dksJ33_moveRootToFront_0 4 rfl rfl)
theorem dJ33_moveRootToFront_5 : decode cJ33_moveRootToFront 5 = .ok (.ifnull 118, 3) := dk_198 0 118 (dk_at dksJ33_moveRootToFront_0 5 rfl rfl)
theorem dJ33_moveRootToFront_8 : decode cJ33_moveRootToFront 8 = .ok (.aload_n 0, 1) := dk_42 (dk_at dksJ33_moveRootToFront_0 8 rfl rfl)
theorem dJ33_moveRootToFront_9 : decode cJ33_moveRootToFront 9 = .ok (.arraylength, 1) := dk_190 (dk_at dksJ33_moveRootToFront_0 9 rfl rfl)
theorem dJ33_moveRootToFront_10 : decode cJ33_moveRootToFront 10 = .ok (.dup, 1) := dk_89 (dk_at dksJ33_moveRootToFront_0 10 rfl rfl)
theorem dJ33_moveRootToFront_11 : decode cJ33_moveRootToFront 11 = .ok (.istore_n 2, 1) := dk_61 (dk_at dksJ33_moveRootToFront_0 11 rfl rfl)
theorem dJ33_moveRootToFront_12 : decode cJ33_moveRootToFront 12 = .ok (.ifCond .le 111, 3) := dk_158 0 111 (dk_at dksJ33_moveRootToFront_0 12 rfl rfl)
theorem dJ33_moveRootToFront_15 : decode cJ33_moveRootToFront 15 = .ok (.iload_n 2, 1) := dk_28 (dk_at dksJ33_moveRootToFront_0 15 rfl rfl)
theorem dJ33_moveRootToFront_16 : decode cJ33_moveRootToFront 16 = .ok (.iconst 1, 1) := dk_4 (dk_at dksJ33_moveRootToFront_0 16 rfl rfl)
theorem dJ33_moveRootToFront_17 : decode cJ33_moveRootToFront 17 = .ok (.isub, 1) := dk_100 (dk_at dksJ33_moveRootToFront_0 17 rfl rfl)
theorem dJ33_moveRootToFront_18 : decode cJ33_moveRootToFront 18 = .ok (.aload_n 1, 1) := dk_43 (dk_at dksJ33_moveRootToFront_0 18 rfl rfl)
theorem dJ33_moveRootToFront_19 : decode cJ33_moveRootToFront 19 = .ok (.getfield 15, 3) := dk_180 0 15 (dk_at dksJ33_moveRootToFront_0 19 rfl rfl)
theorem dJ33_moveRootToFront_22 : decode cJ33_moveRootToFront 22 = .ok (.iand, 1) := dk_126 (dk_at dksJ33_moveRootToFront_0 22 rfl rfl)
theorem dJ33_moveRootToFront_23 : decode cJ33_moveRootToFront 23 = .ok (.istore_n 3, 1) := dk_62 (dk_at dksJ33_moveRootToFront_0 23 rfl rfl)
theorem dJ33_moveRootToFront_24 : decode cJ33_moveRootToFront 24 = .ok (.aload_n 0, 1) := dk_42 (dk_at dksJ33_moveRootToFront_1 0 rfl rfl)
theorem dJ33_moveRootToFront_25 : decode cJ33_moveRootToFront 25 = .ok (.iload_n 3, 1) := dk_29 (dk_at dksJ33_moveRootToFront_1 1 rfl rfl)
theorem dJ33_moveRootToFront_26 : decode cJ33_moveRootToFront 26 = .ok (.aaload, 1) := dk_50 (dk_at dksJ33_moveRootToFront_1 2 rfl rfl)
theorem dJ33_moveRootToFront_27 : decode cJ33_moveRootToFront 27 = .ok (.checkcast 10, 3) := dk_192 0 10 (dk_at dksJ33_moveRootToFront_1 3 rfl rfl)
theorem dJ33_moveRootToFront_30 : decode cJ33_moveRootToFront 30 = .ok (.astore 4, 2) := dk_58 4 (dk_at dksJ33_moveRootToFront_1 6 rfl rfl)
theorem dJ33_moveRootToFront_32 : decode cJ33_moveRootToFront 32 = .ok (.aload_n 1, 1) := dk_43 (dk_at dksJ33_moveRootToFront_1 8 rfl rfl)
theorem dJ33_moveRootToFront_33 : decode cJ33_moveRootToFront 33 = .ok (.aload 4, 2) := dk_25 4 (dk_at dksJ33_moveRootToFront_1 9 rfl rfl)
theorem dJ33_moveRootToFront_35 : decode cJ33_moveRootToFront 35 = .ok (.if_acmp .eq 67, 3) := dk_165 0 67 (dk_at dksJ33_moveRootToFront_1 11 rfl rfl)
theorem dJ33_moveRootToFront_38 : decode cJ33_moveRootToFront 38 = .ok (.aload_n 0, 1) := dk_42 (dk_at dksJ33_moveRootToFront_1 14 rfl rfl)
theorem dJ33_moveRootToFront_39 : decode cJ33_moveRootToFront 39 = .ok (.iload_n 3, 1) := dk_29 (dk_at dksJ33_moveRootToFront_1 15 rfl rfl)
theorem dJ33_moveRootToFront_40 : decode cJ33_moveRootToFront 40 = .ok (.aload_n 1, 1) := dk_43 (dk_at dksJ33_moveRootToFront_1 16 rfl rfl)
theorem dJ33_moveRootToFront_41 : decode cJ33_moveRootToFront 41 = .ok (.aastore, 1) := dk_83 (dk_at dksJ33_moveRootToFront_1 17 rfl rfl)
theorem dJ33_moveRootToFront_42 : decode cJ33_moveRootToFront 42 = .ok (.aload_n 1, 1) := dk_43 (dk_at dksJ33_moveRootToFront_1 18 rfl rfl)
theorem dJ33_moveRootToFront_43 : decode cJ33_moveRootToFront 43 = .ok (.getfield 19, 3) := dk_180 0 19 (dk_at dksJ33_moveRootToFront_1 19 rfl rfl)
theorem dJ33_moveRootToFront_46 : decode cJ33_moveRootToFront 46 = .ok (.astore 6, 2) := dk_58 6 (dk_at dksJ33_moveRootToFront_1 22 rfl rfl)
theorem dJ33_moveRootToFront_48 : decode cJ33_moveRootToFront 48 = .ok (.aload_n 1, 1) := dk_43 (dk_at dksJ33_moveRootToFront_2 0 rfl rfl)
theorem dJ33_moveRootToFront_49 : decode cJ33_moveRootToFront 49 = .ok (.getfield 22, 3) := dk_180 0 22 (dk_at dksJ33_moveRootToFront_2 1 rfl rfl)
theorem dJ33_moveRootToFront_52 : decode cJ33_moveRootToFront 52 = .ok (.dup, 1) := dk_89 (dk_at dksJ33_moveRootToFront_2 4 rfl rfl)
theorem dJ33_moveRootToFront_53 : decode cJ33_moveRootToFront 53 = .ok (.astore 5, 2) := dk_58 5 (dk_at dksJ33_moveRootToFront_2 5 rfl rfl)
theorem dJ33_moveRootToFront_55 : decode cJ33_moveRootToFront 55 = .ok (.ifnull 13, 3) := dk_198 0 13 (dk_at dksJ33_moveRootToFront_2 7 rfl rfl)
theorem dJ33_moveRootToFront_58 : decode cJ33_moveRootToFront 58 = .ok (.aload 5, 2) := dk_25 5 (dk_at dksJ33_moveRootToFront_2 10 rfl rfl)
theorem dJ33_moveRootToFront_60 : decode cJ33_moveRootToFront 60 = .ok (.checkcast 10, 3) := dk_192 0 10 (dk_at dksJ33_moveRootToFront_2 12 rfl rfl)
theorem dJ33_moveRootToFront_63 : decode cJ33_moveRootToFront 63 = .ok (.aload 6, 2) := dk_25 6 (dk_at dksJ33_moveRootToFront_2 15 rfl rfl)
theorem dJ33_moveRootToFront_65 : decode cJ33_moveRootToFront 65 = .ok (.putfield 19, 3) := dk_181 0 19 (dk_at dksJ33_moveRootToFront_2 17 rfl rfl)
theorem dJ33_moveRootToFront_68 : decode cJ33_moveRootToFront 68 = .ok (.aload 6, 2) := dk_25 6 (dk_at dksJ33_moveRootToFront_2 20 rfl rfl)
theorem dJ33_moveRootToFront_70 : decode cJ33_moveRootToFront 70 = .ok (.ifnull 10, 3) := dk_198 0 10 (dk_at dksJ33_moveRootToFront_3 0 rfl rfl)
theorem dJ33_moveRootToFront_73 : decode cJ33_moveRootToFront 73 = .ok (.aload 6, 2) := dk_25 6 (dk_at dksJ33_moveRootToFront_3 3 rfl rfl)
theorem dJ33_moveRootToFront_75 : decode cJ33_moveRootToFront 75 = .ok (.aload 5, 2) := dk_25 5 (dk_at dksJ33_moveRootToFront_3 5 rfl rfl)
theorem dJ33_moveRootToFront_77 : decode cJ33_moveRootToFront 77 = .ok (.putfield 22, 3) := dk_181 0 22 (dk_at dksJ33_moveRootToFront_3 7 rfl rfl)
theorem dJ33_moveRootToFront_80 : decode cJ33_moveRootToFront 80 = .ok (.aload 4, 2) := dk_25 4 (dk_at dksJ33_moveRootToFront_3 10 rfl rfl)
theorem dJ33_moveRootToFront_82 : decode cJ33_moveRootToFront 82 = .ok (.ifnull 9, 3) := dk_198 0 9 (dk_at dksJ33_moveRootToFront_3 12 rfl rfl)
theorem dJ33_moveRootToFront_85 : decode cJ33_moveRootToFront 85 = .ok (.aload 4, 2) := dk_25 4 (dk_at dksJ33_moveRootToFront_3 15 rfl rfl)
theorem dJ33_moveRootToFront_87 : decode cJ33_moveRootToFront 87 = .ok (.aload_n 1, 1) := dk_43 (dk_at dksJ33_moveRootToFront_3 17 rfl rfl)
theorem dJ33_moveRootToFront_88 : decode cJ33_moveRootToFront 88 = .ok (.putfield 19, 3) := dk_181 0 19 (dk_at dksJ33_moveRootToFront_3 18 rfl rfl)
theorem dJ33_moveRootToFront_91 : decode cJ33_moveRootToFront 91 = .ok (.aload_n 1, 1) := dk_43 (dk_at dksJ33_moveRootToFront_3 21 rfl rfl)
theorem dJ33_moveRootToFront_92 : decode cJ33_moveRootToFront 92 = .ok (.aload 4, 2) := dk_25 4 (dk_at dksJ33_moveRootToFront_3 22 rfl rfl)
theorem dJ33_moveRootToFront_94 : decode cJ33_moveRootToFront 94 = .ok (.putfield 22, 3) := dk_181 0 22 (dk_at dksJ33_moveRootToFront_4 0 rfl rfl)
theorem dJ33_moveRootToFront_97 : decode cJ33_moveRootToFront 97 = .ok (.aload_n 1, 1) := dk_43 (dk_at dksJ33_moveRootToFront_4 3 rfl rfl)
theorem dJ33_moveRootToFront_98 : decode cJ33_moveRootToFront 98 = .ok (.aconst_null, 1) := dk_1 (dk_at dksJ33_moveRootToFront_4 4 rfl rfl)
theorem dJ33_moveRootToFront_99 : decode cJ33_moveRootToFront 99 = .ok (.putfield 19, 3) := dk_181 0 19 (dk_at dksJ33_moveRootToFront_4 5 rfl rfl)
theorem dJ33_moveRootToFront_102 : decode cJ33_moveRootToFront 102 = .ok (.getstatic 26, 3) := dk_178 0 26 (dk_at dksJ33_moveRootToFront_4 8 rfl rfl)
theorem dJ33_moveRootToFront_105 : decode cJ33_moveRootToFront 105 = .ok (.ifCond .ne 18, 3) := dk_154 0 18 (dk_at dksJ33_moveRootToFront_4 11 rfl rfl)
theorem dJ33_moveRootToFront_108 : decode cJ33_moveRootToFront 108 = .ok (.aload_n 1, 1) := dk_43 (dk_at dksJ33_moveRootToFront_4 14 rfl rfl)
theorem dJ33_moveRootToFront_109 : decode cJ33_moveRootToFront 109 = .ok (.invokestatic 30, 3) := dk_184 0 30 (dk_at dksJ33_moveRootToFront_4 15 rfl rfl)
theorem dJ33_moveRootToFront_112 : decode cJ33_moveRootToFront 112 = .ok (.ifCond .ne 11, 3) := dk_154 0 11 (dk_at dksJ33_moveRootToFront_4 18 rfl rfl)
theorem dJ33_moveRootToFront_115 : decode cJ33_moveRootToFront 115 = .ok (.new 34, 3) := dk_187 0 34 (dk_at dksJ33_moveRootToFront_4 21 rfl rfl)
theorem dJ33_moveRootToFront_118 : decode cJ33_moveRootToFront 118 = .ok (.dup, 1) := dk_89 (dk_at dksJ33_moveRootToFront_5 0 rfl rfl)
theorem dJ33_moveRootToFront_119 : decode cJ33_moveRootToFront 119 = .ok (.invokespecial 36, 3) := dk_183 0 36 (dk_at dksJ33_moveRootToFront_5 1 rfl rfl)
theorem dJ33_moveRootToFront_122 : decode cJ33_moveRootToFront 122 = .ok (.athrow, 1) := dk_191 (dk_at dksJ33_moveRootToFront_5 4 rfl rfl)
theorem dJ33_moveRootToFront_123 : decode cJ33_moveRootToFront 123 = .ok (.return_, 1) := dk_177 (dk_at dksJ33_moveRootToFront_5 5 rfl rfl)
abbrev cJ33_putTreeVal : ByteArray := prog_46_method_9_code
def yJ33_putTreeVal : MethodName := ⟨RJ33, "putTreeVal", "(Ljava/util/HashMap;[Ljava/util/HashMap$Node;ILjava/lang/Object;Ljava/lang/Object;)Ljava/util/HashMap$TreeNode;"⟩
def dkwJ33_putTreeVal_13 : List UInt8 := [184, 0, 100, 184, 0, 104, 1, 176, 167, 254, 228]
abbrev dktJ33_putTreeVal_13 : List UInt8 := dkwJ33_putTreeVal_13 ++ []
def dkwJ33_putTreeVal_12 : List UInt8 := [181, 0, 9, 25, 14, 198, 0, 13, 25, 14, 192, 0, 10, 25, 15, 181, 0, 19, 44, 25, 8, 25, 15]
abbrev dktJ33_putTreeVal_12 : List UInt8 := dkwJ33_putTreeVal_12 ++ dktJ33_putTreeVal_13
def dkwJ33_putTreeVal_11 : List UInt8 := [25, 15, 181, 0, 42, 25, 13, 25, 15, 181, 0, 22, 25, 15, 25, 15, 25, 13, 90, 181, 0, 19]
abbrev dktJ33_putTreeVal_11 : List UInt8 := dkwJ33_putTreeVal_11 ++ dktJ33_putTreeVal_12
def dkwJ33_putTreeVal_10 : List UInt8 := [25, 14, 182, 0, 115, 58, 15, 21, 10, 157, 0, 13, 25, 13, 25, 15, 181, 0, 39, 167, 0, 10, 25, 13]
abbrev dktJ33_putTreeVal_10 : List UInt8 := dkwJ33_putTreeVal_10 ++ dktJ33_putTreeVal_11
def dkwJ33_putTreeVal_9 : List UInt8 := [25, 9, 180, 0, 42, 89, 58, 9, 199, 0, 93, 25, 13, 180, 0, 22, 58, 14, 43, 29, 25, 4, 25, 5]
abbrev dktJ33_putTreeVal_9 : List UInt8 := dkwJ33_putTreeVal_9 ++ dktJ33_putTreeVal_10
def dkwJ33_putTreeVal_8 : List UInt8 := [25, 12, 184, 0, 96, 54, 10, 25, 9, 58, 13, 21, 10, 157, 0, 11, 25, 9, 180, 0, 39, 167, 0, 8]
abbrev dktJ33_putTreeVal_8 : List UInt8 := dkwJ33_putTreeVal_8 ++ dktJ33_putTreeVal_9
def dkwJ33_putTreeVal_7 : List UInt8 := [198, 0, 22, 25, 14, 29, 25, 4, 25, 6, 182, 0, 63, 89, 58, 13, 198, 0, 6, 25, 13, 176, 25, 4]
abbrev dktJ33_putTreeVal_7 : List UInt8 := dkwJ33_putTreeVal_7 ++ dktJ33_putTreeVal_8
def dkwJ33_putTreeVal_6 : List UInt8 := [29, 25, 4, 25, 6, 182, 0, 63, 89, 58, 13, 199, 0, 30, 25, 9, 180, 0, 42, 89, 58, 14]
abbrev dktJ33_putTreeVal_6 : List UInt8 := dkwJ33_putTreeVal_6 ++ dktJ33_putTreeVal_7
def dkwJ33_putTreeVal_5 : List UInt8 := [154, 0, 77, 21, 7, 154, 0, 63, 4, 54, 7, 25, 9, 180, 0, 39, 89, 58, 14, 198, 0, 19, 25, 14]
abbrev dktJ33_putTreeVal_5 : List UInt8 := dkwJ33_putTreeVal_5 ++ dktJ33_putTreeVal_6
def dkwJ33_putTreeVal_4 : List UInt8 := [25, 4, 184, 0, 55, 89, 58, 6, 198, 0, 18, 25, 6, 25, 4, 25, 12, 184, 0, 59, 89, 54, 10]
abbrev dktJ33_putTreeVal_4 : List UInt8 := dkwJ33_putTreeVal_4 ++ dktJ33_putTreeVal_5
def dkwJ33_putTreeVal_3 : List UInt8 := [25, 4, 198, 0, 16, 25, 4, 25, 12, 182, 0, 49, 153, 0, 6, 25, 9, 176, 25, 6, 199, 0, 14]
abbrev dktJ33_putTreeVal_3 : List UInt8 := dkwJ33_putTreeVal_3 ++ dktJ33_putTreeVal_4
def dkwJ33_putTreeVal_2 : List UInt8 := [29, 162, 0, 9, 4, 54, 10, 167, 0, 139, 25, 9, 180, 0, 45, 89, 58, 12, 25, 4, 165, 0, 18]
abbrev dktJ33_putTreeVal_2 : List UInt8 := dkwJ33_putTreeVal_2 ++ dktJ33_putTreeVal_3
def dkwJ33_putTreeVal_1 : List UInt8 := [25, 8, 58, 9, 25, 9, 180, 0, 15, 89, 54, 11, 29, 164, 0, 9, 2, 54, 10, 167, 0, 151, 21, 11]
abbrev dktJ33_putTreeVal_1 : List UInt8 := dkwJ33_putTreeVal_1 ++ dktJ33_putTreeVal_2
def dkwJ33_putTreeVal_0 : List UInt8 := [1, 58, 6, 3, 54, 7, 42, 180, 0, 9, 198, 0, 10, 42, 182, 0, 67, 167, 0, 4, 42, 58, 8]
abbrev dktJ33_putTreeVal_0 : List UInt8 := dkwJ33_putTreeVal_0 ++ dktJ33_putTreeVal_1
theorem dksJ33_putTreeVal_0 : cJ33_putTreeVal.data.toList.drop 0 = dktJ33_putTreeVal_0 := by decide +kernel
theorem dksJ33_putTreeVal_1 : cJ33_putTreeVal.data.toList.drop 23 = dktJ33_putTreeVal_1 := dk_seg dksJ33_putTreeVal_0 23 rfl rfl
theorem dksJ33_putTreeVal_2 : cJ33_putTreeVal.data.toList.drop 47 = dktJ33_putTreeVal_2 := dk_seg dksJ33_putTreeVal_1 24 rfl rfl
theorem dksJ33_putTreeVal_3 : cJ33_putTreeVal.data.toList.drop 70 = dktJ33_putTreeVal_3 := dk_seg dksJ33_putTreeVal_2 23 rfl rfl
theorem dksJ33_putTreeVal_4 : cJ33_putTreeVal.data.toList.drop 93 = dktJ33_putTreeVal_4 := dk_seg dksJ33_putTreeVal_3 23 rfl rfl
theorem dksJ33_putTreeVal_5 : cJ33_putTreeVal.data.toList.drop 116 = dktJ33_putTreeVal_5 := dk_seg dksJ33_putTreeVal_4 23 rfl rfl
theorem dksJ33_putTreeVal_6 : cJ33_putTreeVal.data.toList.drop 140 = dktJ33_putTreeVal_6 := dk_seg dksJ33_putTreeVal_5 24 rfl rfl
theorem dksJ33_putTreeVal_7 : cJ33_putTreeVal.data.toList.drop 162 = dktJ33_putTreeVal_7 := dk_seg dksJ33_putTreeVal_6 22 rfl rfl
theorem dksJ33_putTreeVal_8 : cJ33_putTreeVal.data.toList.drop 186 = dktJ33_putTreeVal_8 := dk_seg dksJ33_putTreeVal_7 24 rfl rfl
theorem dksJ33_putTreeVal_9 : cJ33_putTreeVal.data.toList.drop 210 = dktJ33_putTreeVal_9 := dk_seg dksJ33_putTreeVal_8 24 rfl rfl
theorem dksJ33_putTreeVal_10 : cJ33_putTreeVal.data.toList.drop 234 = dktJ33_putTreeVal_10 := dk_seg dksJ33_putTreeVal_9 24 rfl rfl
theorem dksJ33_putTreeVal_11 : cJ33_putTreeVal.data.toList.drop 258 = dktJ33_putTreeVal_11 := dk_seg dksJ33_putTreeVal_10 24 rfl rfl
theorem dksJ33_putTreeVal_12 : cJ33_putTreeVal.data.toList.drop 280 = dktJ33_putTreeVal_12 := dk_seg dksJ33_putTreeVal_11 22 rfl rfl
theorem dksJ33_putTreeVal_13 : cJ33_putTreeVal.data.toList.drop 303 = dktJ33_putTreeVal_13 := dk_seg dksJ33_putTreeVal_12 23 rfl rfl
theorem dJ33_putTreeVal_0 : decode cJ33_putTreeVal 0 = .ok (.aconst_null, 1) := dk_1 (dk_at dksJ33_putTreeVal_0 0 rfl rfl)
theorem dJ33_putTreeVal_1 : decode cJ33_putTreeVal 1 = .ok (.astore 6, 2) := dk_58 6 (dk_at dksJ33_putTreeVal_0 1 rfl rfl)
theorem dJ33_putTreeVal_3 : decode cJ33_putTreeVal 3 = .ok (.iconst 0, 1) := dk_3 (dk_at dksJ33_putTreeVal_0 3 rfl rfl)
theorem dJ33_putTreeVal_4 : decode cJ33_putTreeVal 4 = .ok (.istore 7, 2) := dk_54 7 (dk_at dksJ33_putTreeVal_0 4 rfl rfl)
theorem dJ33_putTreeVal_6 : decode cJ33_putTreeVal 6 = .ok (.aload_n 0, 1) := dk_42 (dk_at dksJ33_putTreeVal_0 6 rfl rfl)
theorem dJ33_putTreeVal_7 : decode cJ33_putTreeVal 7 = .ok (.getfield 9, 3) := dk_180 0 9 (dk_at dksJ33_putTreeVal_0 7 rfl rfl)
theorem dJ33_putTreeVal_10 : decode cJ33_putTreeVal 10 = .ok (.ifnull 10, 3) := dk_198 0 10 (dk_at dksJ33_putTreeVal_0 10 rfl rfl)
theorem dJ33_putTreeVal_13 : decode cJ33_putTreeVal 13 = .ok (.aload_n 0, 1) := dk_42 (dk_at dksJ33_putTreeVal_0 13 rfl rfl)
theorem dJ33_putTreeVal_14 : decode cJ33_putTreeVal 14 = .ok (.invokevirtual 67, 3) := dk_182 0 67 (dk_at dksJ33_putTreeVal_0 14 rfl rfl)
theorem dJ33_putTreeVal_17 : decode cJ33_putTreeVal 17 = .ok (.goto 4, 3) := dk_167 0 4 (dk_at dksJ33_putTreeVal_0 17 rfl rfl)
theorem dJ33_putTreeVal_20 : decode cJ33_putTreeVal 20 = .ok (.aload_n 0, 1) := dk_42 (dk_at dksJ33_putTreeVal_0 20 rfl rfl)
theorem dJ33_putTreeVal_21 : decode cJ33_putTreeVal 21 = .ok (.astore 8, 2) := dk_58 8 (dk_at dksJ33_putTreeVal_0 21 rfl rfl)
theorem dJ33_putTreeVal_23 : decode cJ33_putTreeVal 23 = .ok (.aload 8, 2) := dk_25 8 (dk_at dksJ33_putTreeVal_1 0 rfl rfl)
theorem dJ33_putTreeVal_25 : decode cJ33_putTreeVal 25 = .ok (.astore 9, 2) := dk_58 9 (dk_at dksJ33_putTreeVal_1 2 rfl rfl)
theorem dJ33_putTreeVal_27 : decode cJ33_putTreeVal 27 = .ok (.aload 9, 2) := dk_25 9 (dk_at dksJ33_putTreeVal_1 4 rfl rfl)
theorem dJ33_putTreeVal_29 : decode cJ33_putTreeVal 29 = .ok (.getfield 15, 3) := dk_180 0 15 (dk_at dksJ33_putTreeVal_1 6 rfl rfl)
theorem dJ33_putTreeVal_32 : decode cJ33_putTreeVal 32 = .ok (.dup, 1) := dk_89 (dk_at dksJ33_putTreeVal_1 9 rfl rfl)
theorem dJ33_putTreeVal_33 : decode cJ33_putTreeVal 33 = .ok (.istore 11, 2) := dk_54 11 (dk_at dksJ33_putTreeVal_1 10 rfl rfl)
theorem dJ33_putTreeVal_35 : decode cJ33_putTreeVal 35 = .ok (.iload_n 3, 1) := dk_29 (dk_at dksJ33_putTreeVal_1 12 rfl rfl)
theorem dJ33_putTreeVal_36 : decode cJ33_putTreeVal 36 = .ok (.if_icmp .le 9, 3) := dk_164 0 9 (dk_at dksJ33_putTreeVal_1 13 rfl rfl)
theorem dJ33_putTreeVal_39 : decode cJ33_putTreeVal 39 = .ok (.iconst (-1), 1) := dk_2 (dk_at dksJ33_putTreeVal_1 16 rfl rfl)
theorem dJ33_putTreeVal_40 : decode cJ33_putTreeVal 40 = .ok (.istore 10, 2) := dk_54 10 (dk_at dksJ33_putTreeVal_1 17 rfl rfl)
theorem dJ33_putTreeVal_42 : decode cJ33_putTreeVal 42 = .ok (.goto 151, 3) := dk_167 0 151 (dk_at dksJ33_putTreeVal_1 19 rfl rfl)
theorem dJ33_putTreeVal_45 : decode cJ33_putTreeVal 45 = .ok (.iload 11, 2) := dk_21 11 (dk_at dksJ33_putTreeVal_1 22 rfl rfl)
theorem dJ33_putTreeVal_47 : decode cJ33_putTreeVal 47 = .ok (.iload_n 3, 1) := dk_29 (dk_at dksJ33_putTreeVal_2 0 rfl rfl)
theorem dJ33_putTreeVal_48 : decode cJ33_putTreeVal 48 = .ok (.if_icmp .ge 9, 3) := dk_162 0 9 (dk_at dksJ33_putTreeVal_2 1 rfl rfl)
theorem dJ33_putTreeVal_51 : decode cJ33_putTreeVal 51 = .ok (.iconst 1, 1) := dk_4 (dk_at dksJ33_putTreeVal_2 4 rfl rfl)
theorem dJ33_putTreeVal_52 : decode cJ33_putTreeVal 52 = .ok (.istore 10, 2) := dk_54 10 (dk_at dksJ33_putTreeVal_2 5 rfl rfl)
theorem dJ33_putTreeVal_54 : decode cJ33_putTreeVal 54 = .ok (.goto 139, 3) := dk_167 0 139 (dk_at dksJ33_putTreeVal_2 7 rfl rfl)
theorem dJ33_putTreeVal_57 : decode cJ33_putTreeVal 57 = .ok (.aload 9, 2) := dk_25 9 (dk_at dksJ33_putTreeVal_2 10 rfl rfl)
theorem dJ33_putTreeVal_59 : decode cJ33_putTreeVal 59 = .ok (.getfield 45, 3) := dk_180 0 45 (dk_at dksJ33_putTreeVal_2 12 rfl rfl)
theorem dJ33_putTreeVal_62 : decode cJ33_putTreeVal 62 = .ok (.dup, 1) := dk_89 (dk_at dksJ33_putTreeVal_2 15 rfl rfl)
theorem dJ33_putTreeVal_63 : decode cJ33_putTreeVal 63 = .ok (.astore 12, 2) := dk_58 12 (dk_at dksJ33_putTreeVal_2 16 rfl rfl)
theorem dJ33_putTreeVal_65 : decode cJ33_putTreeVal 65 = .ok (.aload 4, 2) := dk_25 4 (dk_at dksJ33_putTreeVal_2 18 rfl rfl)
theorem dJ33_putTreeVal_67 : decode cJ33_putTreeVal 67 = .ok (.if_acmp .eq 18, 3) := dk_165 0 18 (dk_at dksJ33_putTreeVal_2 20 rfl rfl)
theorem dJ33_putTreeVal_70 : decode cJ33_putTreeVal 70 = .ok (.aload 4, 2) := dk_25 4 (dk_at dksJ33_putTreeVal_3 0 rfl rfl)
theorem dJ33_putTreeVal_72 : decode cJ33_putTreeVal 72 = .ok (.ifnull 16, 3) := dk_198 0 16 (dk_at dksJ33_putTreeVal_3 2 rfl rfl)
theorem dJ33_putTreeVal_75 : decode cJ33_putTreeVal 75 = .ok (.aload 4, 2) := dk_25 4 (dk_at dksJ33_putTreeVal_3 5 rfl rfl)
theorem dJ33_putTreeVal_77 : decode cJ33_putTreeVal 77 = .ok (.aload 12, 2) := dk_25 12 (dk_at dksJ33_putTreeVal_3 7 rfl rfl)
theorem dJ33_putTreeVal_79 : decode cJ33_putTreeVal 79 = .ok (.invokevirtual 49, 3) := dk_182 0 49 (dk_at dksJ33_putTreeVal_3 9 rfl rfl)
theorem dJ33_putTreeVal_82 : decode cJ33_putTreeVal 82 = .ok (.ifCond .eq 6, 3) := dk_153 0 6 (dk_at dksJ33_putTreeVal_3 12 rfl rfl)
theorem dJ33_putTreeVal_85 : decode cJ33_putTreeVal 85 = .ok (.aload 9, 2) := dk_25 9 (dk_at dksJ33_putTreeVal_3 15 rfl rfl)
theorem dJ33_putTreeVal_87 : decode cJ33_putTreeVal 87 = .ok (.areturn, 1) := dk_176 (dk_at dksJ33_putTreeVal_3 17 rfl rfl)
theorem dJ33_putTreeVal_88 : decode cJ33_putTreeVal 88 = .ok (.aload 6, 2) := dk_25 6 (dk_at dksJ33_putTreeVal_3 18 rfl rfl)
theorem dJ33_putTreeVal_90 : decode cJ33_putTreeVal 90 = .ok (.ifnonnull 14, 3) := dk_199 0 14 (dk_at dksJ33_putTreeVal_3 20 rfl rfl)
theorem dJ33_putTreeVal_93 : decode cJ33_putTreeVal 93 = .ok (.aload 4, 2) := dk_25 4 (dk_at dksJ33_putTreeVal_4 0 rfl rfl)
theorem dJ33_putTreeVal_95 : decode cJ33_putTreeVal 95 = .ok (.invokestatic 55, 3) := dk_184 0 55 (dk_at dksJ33_putTreeVal_4 2 rfl rfl)
theorem dJ33_putTreeVal_98 : decode cJ33_putTreeVal 98 = .ok (.dup, 1) := dk_89 (dk_at dksJ33_putTreeVal_4 5 rfl rfl)
theorem dJ33_putTreeVal_99 : decode cJ33_putTreeVal 99 = .ok (.astore 6, 2) := dk_58 6 (dk_at dksJ33_putTreeVal_4 6 rfl rfl)
theorem dJ33_putTreeVal_101 : decode cJ33_putTreeVal 101 = .ok (.ifnull 18, 3) := dk_198 0 18 (dk_at dksJ33_putTreeVal_4 8 rfl rfl)
theorem dJ33_putTreeVal_104 : decode cJ33_putTreeVal 104 = .ok (.aload 6, 2) := dk_25 6 (dk_at dksJ33_putTreeVal_4 11 rfl rfl)
theorem dJ33_putTreeVal_106 : decode cJ33_putTreeVal 106 = .ok (.aload 4, 2) := dk_25 4 (dk_at dksJ33_putTreeVal_4 13 rfl rfl)
theorem dJ33_putTreeVal_108 : decode cJ33_putTreeVal 108 = .ok (.aload 12, 2) := dk_25 12 (dk_at dksJ33_putTreeVal_4 15 rfl rfl)
theorem dJ33_putTreeVal_110 : decode cJ33_putTreeVal 110 = .ok (.invokestatic 59, 3) := dk_184 0 59 (dk_at dksJ33_putTreeVal_4 17 rfl rfl)
theorem dJ33_putTreeVal_113 : decode cJ33_putTreeVal 113 = .ok (.dup, 1) := dk_89 (dk_at dksJ33_putTreeVal_4 20 rfl rfl)
theorem dJ33_putTreeVal_114 : decode cJ33_putTreeVal 114 = .ok (.istore 10, 2) := dk_54 10 (dk_at dksJ33_putTreeVal_4 21 rfl rfl)
theorem dJ33_putTreeVal_116 : decode cJ33_putTreeVal 116 = .ok (.ifCond .ne 77, 3) := dk_154 0 77 (dk_at dksJ33_putTreeVal_5 0 rfl rfl)
theorem dJ33_putTreeVal_119 : decode cJ33_putTreeVal 119 = .ok (.iload 7, 2) := dk_21 7 (dk_at dksJ33_putTreeVal_5 3 rfl rfl)
theorem dJ33_putTreeVal_121 : decode cJ33_putTreeVal 121 = .ok (.ifCond .ne 63, 3) := dk_154 0 63 (dk_at dksJ33_putTreeVal_5 5 rfl rfl)
theorem dJ33_putTreeVal_124 : decode cJ33_putTreeVal 124 = .ok (.iconst 1, 1) := dk_4 (dk_at dksJ33_putTreeVal_5 8 rfl rfl)
theorem dJ33_putTreeVal_125 : decode cJ33_putTreeVal 125 = .ok (.istore 7, 2) := dk_54 7 (dk_at dksJ33_putTreeVal_5 9 rfl rfl)
theorem dJ33_putTreeVal_127 : decode cJ33_putTreeVal 127 = .ok (.aload 9, 2) := dk_25 9 (dk_at dksJ33_putTreeVal_5 11 rfl rfl)
theorem dJ33_putTreeVal_129 : decode cJ33_putTreeVal 129 = .ok (.getfield 39, 3) := dk_180 0 39 (dk_at dksJ33_putTreeVal_5 13 rfl rfl)
theorem dJ33_putTreeVal_132 : decode cJ33_putTreeVal 132 = .ok (.dup, 1) := dk_89 (dk_at dksJ33_putTreeVal_5 16 rfl rfl)
theorem dJ33_putTreeVal_133 : decode cJ33_putTreeVal 133 = .ok (.astore 14, 2) := dk_58 14 (dk_at dksJ33_putTreeVal_5 17 rfl rfl)
theorem dJ33_putTreeVal_135 : decode cJ33_putTreeVal 135 = .ok (.ifnull 19, 3) := dk_198 0 19 (dk_at dksJ33_putTreeVal_5 19 rfl rfl)
theorem dJ33_putTreeVal_138 : decode cJ33_putTreeVal 138 = .ok (.aload 14, 2) := dk_25 14 (dk_at dksJ33_putTreeVal_5 22 rfl rfl)
theorem dJ33_putTreeVal_140 : decode cJ33_putTreeVal 140 = .ok (.iload_n 3, 1) := dk_29 (dk_at dksJ33_putTreeVal_6 0 rfl rfl)
theorem dJ33_putTreeVal_141 : decode cJ33_putTreeVal 141 = .ok (.aload 4, 2) := dk_25 4 (dk_at dksJ33_putTreeVal_6 1 rfl rfl)
theorem dJ33_putTreeVal_143 : decode cJ33_putTreeVal 143 = .ok (.aload 6, 2) := dk_25 6 (dk_at dksJ33_putTreeVal_6 3 rfl rfl)
theorem dJ33_putTreeVal_145 : decode cJ33_putTreeVal 145 = .ok (.invokevirtual 63, 3) := dk_182 0 63 (dk_at dksJ33_putTreeVal_6 5 rfl rfl)
theorem dJ33_putTreeVal_148 : decode cJ33_putTreeVal 148 = .ok (.dup, 1) := dk_89 (dk_at dksJ33_putTreeVal_6 8 rfl rfl)
theorem dJ33_putTreeVal_149 : decode cJ33_putTreeVal 149 = .ok (.astore 13, 2) := dk_58 13 (dk_at dksJ33_putTreeVal_6 9 rfl rfl)
theorem dJ33_putTreeVal_151 : decode cJ33_putTreeVal 151 = .ok (.ifnonnull 30, 3) := dk_199 0 30 (dk_at dksJ33_putTreeVal_6 11 rfl rfl)
theorem dJ33_putTreeVal_154 : decode cJ33_putTreeVal 154 = .ok (.aload 9, 2) := dk_25 9 (dk_at dksJ33_putTreeVal_6 14 rfl rfl)
theorem dJ33_putTreeVal_156 : decode cJ33_putTreeVal 156 = .ok (.getfield 42, 3) := dk_180 0 42 (dk_at dksJ33_putTreeVal_6 16 rfl rfl)
theorem dJ33_putTreeVal_159 : decode cJ33_putTreeVal 159 = .ok (.dup, 1) := dk_89 (dk_at dksJ33_putTreeVal_6 19 rfl rfl)
theorem dJ33_putTreeVal_160 : decode cJ33_putTreeVal 160 = .ok (.astore 14, 2) := dk_58 14 (dk_at dksJ33_putTreeVal_6 20 rfl rfl)
theorem dJ33_putTreeVal_162 : decode cJ33_putTreeVal 162 = .ok (.ifnull 22, 3) := dk_198 0 22 (dk_at dksJ33_putTreeVal_7 0 rfl rfl)
theorem dJ33_putTreeVal_165 : decode cJ33_putTreeVal 165 = .ok (.aload 14, 2) := dk_25 14 (dk_at dksJ33_putTreeVal_7 3 rfl rfl)
theorem dJ33_putTreeVal_167 : decode cJ33_putTreeVal 167 = .ok (.iload_n 3, 1) := dk_29 (dk_at dksJ33_putTreeVal_7 5 rfl rfl)
theorem dJ33_putTreeVal_168 : decode cJ33_putTreeVal 168 = .ok (.aload 4, 2) := dk_25 4 (dk_at dksJ33_putTreeVal_7 6 rfl rfl)
theorem dJ33_putTreeVal_170 : decode cJ33_putTreeVal 170 = .ok (.aload 6, 2) := dk_25 6 (dk_at dksJ33_putTreeVal_7 8 rfl rfl)
theorem dJ33_putTreeVal_172 : decode cJ33_putTreeVal 172 = .ok (.invokevirtual 63, 3) := dk_182 0 63 (dk_at dksJ33_putTreeVal_7 10 rfl rfl)
theorem dJ33_putTreeVal_175 : decode cJ33_putTreeVal 175 = .ok (.dup, 1) := dk_89 (dk_at dksJ33_putTreeVal_7 13 rfl rfl)
theorem dJ33_putTreeVal_176 : decode cJ33_putTreeVal 176 = .ok (.astore 13, 2) := dk_58 13 (dk_at dksJ33_putTreeVal_7 14 rfl rfl)
theorem dJ33_putTreeVal_178 : decode cJ33_putTreeVal 178 = .ok (.ifnull 6, 3) := dk_198 0 6 (dk_at dksJ33_putTreeVal_7 16 rfl rfl)
theorem dJ33_putTreeVal_181 : decode cJ33_putTreeVal 181 = .ok (.aload 13, 2) := dk_25 13 (dk_at dksJ33_putTreeVal_7 19 rfl rfl)
theorem dJ33_putTreeVal_183 : decode cJ33_putTreeVal 183 = .ok (.areturn, 1) := dk_176 (dk_at dksJ33_putTreeVal_7 21 rfl rfl)
theorem dJ33_putTreeVal_184 : decode cJ33_putTreeVal 184 = .ok (.aload 4, 2) := dk_25 4 (dk_at dksJ33_putTreeVal_7 22 rfl rfl)
theorem dJ33_putTreeVal_186 : decode cJ33_putTreeVal 186 = .ok (.aload 12, 2) := dk_25 12 (dk_at dksJ33_putTreeVal_8 0 rfl rfl)
theorem dJ33_putTreeVal_188 : decode cJ33_putTreeVal 188 = .ok (.invokestatic 96, 3) := dk_184 0 96 (dk_at dksJ33_putTreeVal_8 2 rfl rfl)
theorem dJ33_putTreeVal_191 : decode cJ33_putTreeVal 191 = .ok (.istore 10, 2) := dk_54 10 (dk_at dksJ33_putTreeVal_8 5 rfl rfl)
theorem dJ33_putTreeVal_193 : decode cJ33_putTreeVal 193 = .ok (.aload 9, 2) := dk_25 9 (dk_at dksJ33_putTreeVal_8 7 rfl rfl)
theorem dJ33_putTreeVal_195 : decode cJ33_putTreeVal 195 = .ok (.astore 13, 2) := dk_58 13 (dk_at dksJ33_putTreeVal_8 9 rfl rfl)
theorem dJ33_putTreeVal_197 : decode cJ33_putTreeVal 197 = .ok (.iload 10, 2) := dk_21 10 (dk_at dksJ33_putTreeVal_8 11 rfl rfl)
theorem dJ33_putTreeVal_199 : decode cJ33_putTreeVal 199 = .ok (.ifCond .gt 11, 3) := dk_157 0 11 (dk_at dksJ33_putTreeVal_8 13 rfl rfl)
theorem dJ33_putTreeVal_202 : decode cJ33_putTreeVal 202 = .ok (.aload 9, 2) := dk_25 9 (dk_at dksJ33_putTreeVal_8 16 rfl rfl)
theorem dJ33_putTreeVal_204 : decode cJ33_putTreeVal 204 = .ok (.getfield 39, 3) := dk_180 0 39 (dk_at dksJ33_putTreeVal_8 18 rfl rfl)
theorem dJ33_putTreeVal_207 : decode cJ33_putTreeVal 207 = .ok (.goto 8, 3) := dk_167 0 8 (dk_at dksJ33_putTreeVal_8 21 rfl rfl)
theorem dJ33_putTreeVal_210 : decode cJ33_putTreeVal 210 = .ok (.aload 9, 2) := dk_25 9 (dk_at dksJ33_putTreeVal_9 0 rfl rfl)
theorem dJ33_putTreeVal_212 : decode cJ33_putTreeVal 212 = .ok (.getfield 42, 3) := dk_180 0 42 (dk_at dksJ33_putTreeVal_9 2 rfl rfl)
theorem dJ33_putTreeVal_215 : decode cJ33_putTreeVal 215 = .ok (.dup, 1) := dk_89 (dk_at dksJ33_putTreeVal_9 5 rfl rfl)
theorem dJ33_putTreeVal_216 : decode cJ33_putTreeVal 216 = .ok (.astore 9, 2) := dk_58 9 (dk_at dksJ33_putTreeVal_9 6 rfl rfl)
theorem dJ33_putTreeVal_218 : decode cJ33_putTreeVal 218 = .ok (.ifnonnull 93, 3) := dk_199 0 93 (dk_at dksJ33_putTreeVal_9 8 rfl rfl)
theorem dJ33_putTreeVal_221 : decode cJ33_putTreeVal 221 = .ok (.aload 13, 2) := dk_25 13 (dk_at dksJ33_putTreeVal_9 11 rfl rfl)
theorem dJ33_putTreeVal_223 : decode cJ33_putTreeVal 223 = .ok (.getfield 22, 3) := dk_180 0 22 (dk_at dksJ33_putTreeVal_9 13 rfl rfl)
theorem dJ33_putTreeVal_226 : decode cJ33_putTreeVal 226 = .ok (.astore 14, 2) := dk_58 14 (dk_at dksJ33_putTreeVal_9 16 rfl rfl)
theorem dJ33_putTreeVal_228 : decode cJ33_putTreeVal 228 = .ok (.aload_n 1, 1) := dk_43 (dk_at dksJ33_putTreeVal_9 18 rfl rfl)
theorem dJ33_putTreeVal_229 : decode cJ33_putTreeVal 229 = .ok (.iload_n 3, 1) := dk_29 (dk_at dksJ33_putTreeVal_9 19 rfl rfl)
theorem dJ33_putTreeVal_230 : decode cJ33_putTreeVal 230 = .ok (.aload 4, 2) := dk_25 4 (dk_at dksJ33_putTreeVal_9 20 rfl rfl)
theorem dJ33_putTreeVal_232 : decode cJ33_putTreeVal 232 = .ok (.aload 5, 2) := dk_25 5 (dk_at dksJ33_putTreeVal_9 22 rfl rfl)
theorem dJ33_putTreeVal_234 : decode cJ33_putTreeVal 234 = .ok (.aload 14, 2) := dk_25 14 (dk_at dksJ33_putTreeVal_10 0 rfl rfl)
theorem dJ33_putTreeVal_236 : decode cJ33_putTreeVal 236 = .ok (.invokevirtual 115, 3) := dk_182 0 115 (dk_at dksJ33_putTreeVal_10 2 rfl rfl)
theorem dJ33_putTreeVal_239 : decode cJ33_putTreeVal 239 = .ok (.astore 15, 2) := dk_58 15 (dk_at dksJ33_putTreeVal_10 5 rfl rfl)
theorem dJ33_putTreeVal_241 : decode cJ33_putTreeVal 241 = .ok (.iload 10, 2) := dk_21 10 (dk_at dksJ33_putTreeVal_10 7 rfl rfl)
theorem dJ33_putTreeVal_243 : decode cJ33_putTreeVal 243 = .ok (.ifCond .gt 13, 3) := dk_157 0 13 (dk_at dksJ33_putTreeVal_10 9 rfl rfl)
theorem dJ33_putTreeVal_246 : decode cJ33_putTreeVal 246 = .ok (.aload 13, 2) := dk_25 13 (dk_at dksJ33_putTreeVal_10 12 rfl rfl)
theorem dJ33_putTreeVal_248 : decode cJ33_putTreeVal 248 = .ok (.aload 15, 2) := dk_25 15 (dk_at dksJ33_putTreeVal_10 14 rfl rfl)
theorem dJ33_putTreeVal_250 : decode cJ33_putTreeVal 250 = .ok (.putfield 39, 3) := dk_181 0 39 (dk_at dksJ33_putTreeVal_10 16 rfl rfl)
theorem dJ33_putTreeVal_253 : decode cJ33_putTreeVal 253 = .ok (.goto 10, 3) := dk_167 0 10 (dk_at dksJ33_putTreeVal_10 19 rfl rfl)
theorem dJ33_putTreeVal_256 : decode cJ33_putTreeVal 256 = .ok (.aload 13, 2) := dk_25 13 (dk_at dksJ33_putTreeVal_10 22 rfl rfl)
theorem dJ33_putTreeVal_258 : decode cJ33_putTreeVal 258 = .ok (.aload 15, 2) := dk_25 15 (dk_at dksJ33_putTreeVal_11 0 rfl rfl)
theorem dJ33_putTreeVal_260 : decode cJ33_putTreeVal 260 = .ok (.putfield 42, 3) := dk_181 0 42 (dk_at dksJ33_putTreeVal_11 2 rfl rfl)
theorem dJ33_putTreeVal_263 : decode cJ33_putTreeVal 263 = .ok (.aload 13, 2) := dk_25 13 (dk_at dksJ33_putTreeVal_11 5 rfl rfl)
theorem dJ33_putTreeVal_265 : decode cJ33_putTreeVal 265 = .ok (.aload 15, 2) := dk_25 15 (dk_at dksJ33_putTreeVal_11 7 rfl rfl)
theorem dJ33_putTreeVal_267 : decode cJ33_putTreeVal 267 = .ok (.putfield 22, 3) := dk_181 0 22 (dk_at dksJ33_putTreeVal_11 9 rfl rfl)
theorem dJ33_putTreeVal_270 : decode cJ33_putTreeVal 270 = .ok (.aload 15, 2) := dk_25 15 (dk_at dksJ33_putTreeVal_11 12 rfl rfl)
theorem dJ33_putTreeVal_272 : decode cJ33_putTreeVal 272 = .ok (.aload 15, 2) := dk_25 15 (dk_at dksJ33_putTreeVal_11 14 rfl rfl)
theorem dJ33_putTreeVal_274 : decode cJ33_putTreeVal 274 = .ok (.aload 13, 2) := dk_25 13 (dk_at dksJ33_putTreeVal_11 16 rfl rfl)
theorem dJ33_putTreeVal_276 : decode cJ33_putTreeVal 276 = .ok (.dup_x1, 1) := dk_90 (dk_at dksJ33_putTreeVal_11 18 rfl rfl)
theorem dJ33_putTreeVal_277 : decode cJ33_putTreeVal 277 = .ok (.putfield 19, 3) := dk_181 0 19 (dk_at dksJ33_putTreeVal_11 19 rfl rfl)
theorem dJ33_putTreeVal_280 : decode cJ33_putTreeVal 280 = .ok (.putfield 9, 3) := dk_181 0 9 (dk_at dksJ33_putTreeVal_12 0 rfl rfl)
theorem dJ33_putTreeVal_283 : decode cJ33_putTreeVal 283 = .ok (.aload 14, 2) := dk_25 14 (dk_at dksJ33_putTreeVal_12 3 rfl rfl)
theorem dJ33_putTreeVal_285 : decode cJ33_putTreeVal 285 = .ok (.ifnull 13, 3) := dk_198 0 13 (dk_at dksJ33_putTreeVal_12 5 rfl rfl)
theorem dJ33_putTreeVal_288 : decode cJ33_putTreeVal 288 = .ok (.aload 14, 2) := dk_25 14 (dk_at dksJ33_putTreeVal_12 8 rfl rfl)
theorem dJ33_putTreeVal_290 : decode cJ33_putTreeVal 290 = .ok (.checkcast 10, 3) := dk_192 0 10 (dk_at dksJ33_putTreeVal_12 10 rfl rfl)
theorem dJ33_putTreeVal_293 : decode cJ33_putTreeVal 293 = .ok (.aload 15, 2) := dk_25 15 (dk_at dksJ33_putTreeVal_12 13 rfl rfl)
theorem dJ33_putTreeVal_295 : decode cJ33_putTreeVal 295 = .ok (.putfield 19, 3) := dk_181 0 19 (dk_at dksJ33_putTreeVal_12 15 rfl rfl)
theorem dJ33_putTreeVal_298 : decode cJ33_putTreeVal 298 = .ok (.aload_n 2, 1) := dk_44 (dk_at dksJ33_putTreeVal_12 18 rfl rfl)
theorem dJ33_putTreeVal_299 : decode cJ33_putTreeVal 299 = .ok (.aload 8, 2) := dk_25 8 (dk_at dksJ33_putTreeVal_12 19 rfl rfl)
theorem dJ33_putTreeVal_301 : decode cJ33_putTreeVal 301 = .ok (.aload 15, 2) := dk_25 15 (dk_at dksJ33_putTreeVal_12 21 rfl rfl)
theorem dJ33_putTreeVal_303 : decode cJ33_putTreeVal 303 = .ok (.invokestatic 100, 3) := dk_184 0 100 (dk_at dksJ33_putTreeVal_13 0 rfl rfl)
theorem dJ33_putTreeVal_306 : decode cJ33_putTreeVal 306 = .ok (.invokestatic 104, 3) := dk_184 0 104 (dk_at dksJ33_putTreeVal_13 3 rfl rfl)
theorem dJ33_putTreeVal_309 : decode cJ33_putTreeVal 309 = .ok (.aconst_null, 1) := dk_1 (dk_at dksJ33_putTreeVal_13 6 rfl rfl)
theorem dJ33_putTreeVal_310 : decode cJ33_putTreeVal 310 = .ok (.areturn, 1) := dk_176 (dk_at dksJ33_putTreeVal_13 7 rfl rfl)
theorem dJ33_putTreeVal_311 : decode cJ33_putTreeVal 311 = .ok (.goto (-284), 3) := dk_167 254 228 (dk_at dksJ33_putTreeVal_13 8 rfl rfl)
abbrev cJ33_root : ByteArray := prog_46_method_2_code
def yJ33_root : MethodName := ⟨RJ33, "root", "()Ljava/util/HashMap$TreeNode;"⟩
def dkwJ33_root_0 : List UInt8 := [42, 76, 43, 180, 0, 9, 89, 77, 199, 0, 5, 43, 176, 44, 76, 167, 255, 243]
abbrev dktJ33_root_0 : List UInt8 := dkwJ33_root_0 ++ []
theorem dksJ33_root_0 : cJ33_root.data.toList.drop 0 = dktJ33_root_0 := by decide +kernel
theorem dJ33_root_0 : decode cJ33_root 0 = .ok (.aload_n 0, 1) := dk_42 (dk_at dksJ33_root_0 0 rfl rfl)
theorem dJ33_root_1 : decode cJ33_root 1 = .ok (.astore_n 1, 1) := dk_76 (dk_at dksJ33_root_0 1 rfl rfl)
theorem dJ33_root_2 : decode cJ33_root 2 = .ok (.aload_n 1, 1) := dk_43 (dk_at dksJ33_root_0 2 rfl rfl)
theorem dJ33_root_3 : decode cJ33_root 3 = .ok (.getfield 9, 3) := dk_180 0 9 (dk_at dksJ33_root_0 3 rfl rfl)
theorem dJ33_root_6 : decode cJ33_root 6 = .ok (.dup, 1) := dk_89 (dk_at dksJ33_root_0 6 rfl rfl)
theorem dJ33_root_7 : decode cJ33_root 7 = .ok (.astore_n 2, 1) := dk_77 (dk_at dksJ33_root_0 7 rfl rfl)
theorem dJ33_root_8 : decode cJ33_root 8 = .ok (.ifnonnull 5, 3) := dk_199 0 5 (dk_at dksJ33_root_0 8 rfl rfl)
theorem dJ33_root_11 : decode cJ33_root 11 = .ok (.aload_n 1, 1) := dk_43 (dk_at dksJ33_root_0 11 rfl rfl)
theorem dJ33_root_12 : decode cJ33_root 12 = .ok (.areturn, 1) := dk_176 (dk_at dksJ33_root_0 12 rfl rfl)
theorem dJ33_root_13 : decode cJ33_root 13 = .ok (.aload_n 2, 1) := dk_44 (dk_at dksJ33_root_0 13 rfl rfl)
theorem dJ33_root_14 : decode cJ33_root 14 = .ok (.astore_n 1, 1) := dk_76 (dk_at dksJ33_root_0 14 rfl rfl)
theorem dJ33_root_15 : decode cJ33_root 15 = .ok (.goto (-13), 3) := dk_167 255 243 (dk_at dksJ33_root_0 15 rfl rfl)
abbrev cJ33_find : ByteArray := prog_46_method_4_code
def yJ33_find : MethodName := ⟨RJ33, "find", "(ILjava/lang/Object;Ljava/lang/Class;)Ljava/util/HashMap$TreeNode;"⟩
def dkwJ33_find_7 : List UInt8 := [58, 4, 25, 4, 199, 255, 92, 1, 176]
abbrev dktJ33_find_7 : List UInt8 := dkwJ33_find_7 ++ []
def dkwJ33_find_6 : List UInt8 := [58, 4, 167, 0, 24, 25, 9, 27, 44, 45, 182, 0, 63, 89, 58, 10, 198, 0, 6, 25, 10, 176, 25, 8]
abbrev dktJ33_find_6 : List UInt8 := dkwJ33_find_6 ++ dktJ33_find_7
def dkwJ33_find_5 : List UInt8 := [44, 25, 7, 184, 0, 59, 89, 54, 6, 153, 0, 20, 21, 6, 156, 0, 8, 25, 8, 167, 0, 5, 25, 9]
abbrev dktJ33_find_5 : List UInt8 := dkwJ33_find_5 ++ dktJ33_find_6
def dkwJ33_find_4 : List UInt8 := [199, 0, 10, 25, 8, 58, 4, 167, 0, 67, 45, 199, 0, 12, 44, 184, 0, 55, 89, 78, 198, 0, 33, 45]
abbrev dktJ33_find_4 : List UInt8 := dkwJ33_find_4 ++ dktJ33_find_5
def dkwJ33_find_3 : List UInt8 := [182, 0, 49, 153, 0, 6, 25, 4, 176, 25, 8, 199, 0, 10, 25, 9, 58, 4, 167, 0, 79, 25, 9]
abbrev dktJ33_find_3 : List UInt8 := dkwJ33_find_3 ++ dktJ33_find_4
def dkwJ33_find_2 : List UInt8 := [167, 0, 119, 25, 4, 180, 0, 45, 89, 58, 7, 44, 165, 0, 16, 44, 198, 0, 15, 44, 25, 7]
abbrev dktJ33_find_2 : List UInt8 := dkwJ33_find_2 ++ dktJ33_find_3
def dkwJ33_find_1 : List UInt8 := [54, 5, 27, 164, 0, 10, 25, 8, 58, 4, 167, 0, 132, 21, 5, 27, 162, 0, 10, 25, 9, 58, 4]
abbrev dktJ33_find_1 : List UInt8 := dkwJ33_find_1 ++ dktJ33_find_2
def dkwJ33_find_0 : List UInt8 := [42, 58, 4, 25, 4, 180, 0, 39, 58, 8, 25, 4, 180, 0, 42, 58, 9, 25, 4, 180, 0, 15, 89]
abbrev dktJ33_find_0 : List UInt8 := dkwJ33_find_0 ++ dktJ33_find_1
theorem dksJ33_find_0 : cJ33_find.data.toList.drop 0 = dktJ33_find_0 := by decide +kernel
theorem dksJ33_find_1 : cJ33_find.data.toList.drop 23 = dktJ33_find_1 := dk_seg dksJ33_find_0 23 rfl rfl
theorem dksJ33_find_2 : cJ33_find.data.toList.drop 46 = dktJ33_find_2 := dk_seg dksJ33_find_1 23 rfl rfl
theorem dksJ33_find_3 : cJ33_find.data.toList.drop 68 = dktJ33_find_3 := dk_seg dksJ33_find_2 22 rfl rfl
theorem dksJ33_find_4 : cJ33_find.data.toList.drop 91 = dktJ33_find_4 := dk_seg dksJ33_find_3 23 rfl rfl
theorem dksJ33_find_5 : cJ33_find.data.toList.drop 115 = dktJ33_find_5 := dk_seg dksJ33_find_4 24 rfl rfl
theorem dksJ33_find_6 : cJ33_find.data.toList.drop 139 = dktJ33_find_6 := dk_seg dksJ33_find_5 24 rfl rfl
theorem dksJ33_find_7 : cJ33_find.data.toList.drop 163 = dktJ33_find_7 := dk_seg dksJ33_find_6 24 rfl rfl
theorem dJ33_find_0 : decode cJ33_find 0 = .ok (.aload_n 0, 1) := dk_42 (dk_at dksJ33_find_0 0 rfl rfl)
theorem dJ33_find_1 : decode cJ33_find 1 = .ok (.astore 4, 2) := dk_58 4 (dk_at dksJ33_find_0 1 rfl rfl)
theorem dJ33_find_3 : decode cJ33_find 3 = .ok (.aload 4, 2) := dk_25 4 (dk_at dksJ33_find_0 3 rfl rfl)
theorem dJ33_find_5 : decode cJ33_find 5 = .ok (.getfield 39, 3) := dk_180 0 39 (dk_at dksJ33_find_0 5 rfl rfl)
theorem dJ33_find_8 : decode cJ33_find 8 = .ok (.astore 8, 2) := dk_58 8 (dk_at dksJ33_find_0 8 rfl rfl)
theorem dJ33_find_10 : decode cJ33_find 10 = .ok (.aload 4, 2) := dk_25 4 (dk_at dksJ33_find_0 10 rfl rfl)
theorem dJ33_find_12 : decode cJ33_find 12 = .ok (.getfield 42, 3) := dk_180 0 42 (dk_at dksJ33_find_0 12 rfl rfl)
theorem dJ33_find_15 : decode cJ33_find 15 = .ok (.astore 9, 2) := dk_58 9 (dk_at dksJ33_find_0 15 rfl rfl)
theorem dJ33_find_17 : decode cJ33_find 17 = .ok (.aload 4, 2) := dk_25 4 (dk_at dksJ33_find_0 17 rfl rfl)
theorem dJ33_find_19 : decode cJ33_find 19 = .ok (.getfield 15, 3) := dk_180 0 15 (dk_at dksJ33_find_0 19 rfl rfl)
theorem dJ33_find_22 : decode cJ33_find 22 = .ok (.dup, 1) := dk_89 (dk_at dksJ33_find_0 22 rfl rfl)
theorem dJ33_find_23 : decode cJ33_find 23 = .ok (.istore 5, 2) := dk_54 5 (dk_at dksJ33_find_1 0 rfl rfl)
theorem dJ33_find_25 : decode cJ33_find 25 = .ok (.iload_n 1, 1) := dk_27 (dk_at dksJ33_find_1 2 rfl rfl)
theorem dJ33_find_26 : decode cJ33_find 26 = .ok (.if_icmp .le 10, 3) := dk_164 0 10 (dk_at dksJ33_find_1 3 rfl rfl)
theorem dJ33_find_29 : decode cJ33_find 29 = .ok (.aload 8, 2) := dk_25 8 (dk_at dksJ33_find_1 6 rfl rfl)
theorem dJ33_find_31 : decode cJ33_find 31 = .ok (.astore 4, 2) := dk_58 4 (dk_at dksJ33_find_1 8 rfl rfl)
theorem dJ33_find_33 : decode cJ33_find 33 = .ok (.goto 132, 3) := dk_167 0 132 (dk_at dksJ33_find_1 10 rfl rfl)
theorem dJ33_find_36 : decode cJ33_find 36 = .ok (.iload 5, 2) := dk_21 5 (dk_at dksJ33_find_1 13 rfl rfl)
theorem dJ33_find_38 : decode cJ33_find 38 = .ok (.iload_n 1, 1) := dk_27 (dk_at dksJ33_find_1 15 rfl rfl)
theorem dJ33_find_39 : decode cJ33_find 39 = .ok (.if_icmp .ge 10, 3) := dk_162 0 10 (dk_at dksJ33_find_1 16 rfl rfl)
theorem dJ33_find_42 : decode cJ33_find 42 = .ok (.aload 9, 2) := dk_25 9 (dk_at dksJ33_find_1 19 rfl rfl)
theorem dJ33_find_44 : decode cJ33_find 44 = .ok (.astore 4, 2) := dk_58 4 (dk_at dksJ33_find_1 21 rfl rfl)
theorem dJ33_find_46 : decode cJ33_find 46 = .ok (.goto 119, 3) := dk_167 0 119 (dk_at dksJ33_find_2 0 rfl rfl)
theorem dJ33_find_49 : decode cJ33_find 49 = .ok (.aload 4, 2) := dk_25 4 (dk_at dksJ33_find_2 3 rfl rfl)
theorem dJ33_find_51 : decode cJ33_find 51 = .ok (.getfield 45, 3) := dk_180 0 45 (dk_at dksJ33_find_2 5 rfl rfl)
theorem dJ33_find_54 : decode cJ33_find 54 = .ok (.dup, 1) := dk_89 (dk_at dksJ33_find_2 8 rfl rfl)
theorem dJ33_find_55 : decode cJ33_find 55 = .ok (.astore 7, 2) := dk_58 7 (dk_at dksJ33_find_2 9 rfl rfl)
theorem dJ33_find_57 : decode cJ33_find 57 = .ok (.aload_n 2, 1) := dk_44 (dk_at dksJ33_find_2 11 rfl rfl)
theorem dJ33_find_58 : decode cJ33_find 58 = .ok (.if_acmp .eq 16, 3) := dk_165 0 16 (dk_at dksJ33_find_2 12 rfl rfl)
theorem dJ33_find_61 : decode cJ33_find 61 = .ok (.aload_n 2, 1) := dk_44 (dk_at dksJ33_find_2 15 rfl rfl)
theorem dJ33_find_62 : decode cJ33_find 62 = .ok (.ifnull 15, 3) := dk_198 0 15 (dk_at dksJ33_find_2 16 rfl rfl)
theorem dJ33_find_65 : decode cJ33_find 65 = .ok (.aload_n 2, 1) := dk_44 (dk_at dksJ33_find_2 19 rfl rfl)
theorem dJ33_find_66 : decode cJ33_find 66 = .ok (.aload 7, 2) := dk_25 7 (dk_at dksJ33_find_2 20 rfl rfl)
theorem dJ33_find_68 : decode cJ33_find 68 = .ok (.invokevirtual 49, 3) := dk_182 0 49 (dk_at dksJ33_find_3 0 rfl rfl)
theorem dJ33_find_71 : decode cJ33_find 71 = .ok (.ifCond .eq 6, 3) := dk_153 0 6 (dk_at dksJ33_find_3 3 rfl rfl)
theorem dJ33_find_74 : decode cJ33_find 74 = .ok (.aload 4, 2) := dk_25 4 (dk_at dksJ33_find_3 6 rfl rfl)
theorem dJ33_find_76 : decode cJ33_find 76 = .ok (.areturn, 1) := dk_176 (dk_at dksJ33_find_3 8 rfl rfl)
theorem dJ33_find_77 : decode cJ33_find 77 = .ok (.aload 8, 2) := dk_25 8 (dk_at dksJ33_find_3 9 rfl rfl)
theorem dJ33_find_79 : decode cJ33_find 79 = .ok (.ifnonnull 10, 3) := dk_199 0 10 (dk_at dksJ33_find_3 11 rfl rfl)
theorem dJ33_find_82 : decode cJ33_find 82 = .ok (.aload 9, 2) := dk_25 9 (dk_at dksJ33_find_3 14 rfl rfl)
theorem dJ33_find_84 : decode cJ33_find 84 = .ok (.astore 4, 2) := dk_58 4 (dk_at dksJ33_find_3 16 rfl rfl)
theorem dJ33_find_86 : decode cJ33_find 86 = .ok (.goto 79, 3) := dk_167 0 79 (dk_at dksJ33_find_3 18 rfl rfl)
theorem dJ33_find_89 : decode cJ33_find 89 = .ok (.aload 9, 2) := dk_25 9 (dk_at dksJ33_find_3 21 rfl rfl)
theorem dJ33_find_91 : decode cJ33_find 91 = .ok (.ifnonnull 10, 3) := dk_199 0 10 (dk_at dksJ33_find_4 0 rfl rfl)
theorem dJ33_find_94 : decode cJ33_find 94 = .ok (.aload 8, 2) := dk_25 8 (dk_at dksJ33_find_4 3 rfl rfl)
theorem dJ33_find_96 : decode cJ33_find 96 = .ok (.astore 4, 2) := dk_58 4 (dk_at dksJ33_find_4 5 rfl rfl)
theorem dJ33_find_98 : decode cJ33_find 98 = .ok (.goto 67, 3) := dk_167 0 67 (dk_at dksJ33_find_4 7 rfl rfl)
theorem dJ33_find_101 : decode cJ33_find 101 = .ok (.aload_n 3, 1) := dk_45 (dk_at dksJ33_find_4 10 rfl rfl)
theorem dJ33_find_102 : decode cJ33_find 102 = .ok (.ifnonnull 12, 3) := dk_199 0 12 (dk_at dksJ33_find_4 11 rfl rfl)
theorem dJ33_find_105 : decode cJ33_find 105 = .ok (.aload_n 2, 1) := dk_44 (dk_at dksJ33_find_4 14 rfl rfl)
theorem dJ33_find_106 : decode cJ33_find 106 = .ok (.invokestatic 55, 3) := dk_184 0 55 (dk_at dksJ33_find_4 15 rfl rfl)
theorem dJ33_find_109 : decode cJ33_find 109 = .ok (.dup, 1) := dk_89 (dk_at dksJ33_find_4 18 rfl rfl)
theorem dJ33_find_110 : decode cJ33_find 110 = .ok (.astore_n 3, 1) := dk_78 (dk_at dksJ33_find_4 19 rfl rfl)
theorem dJ33_find_111 : decode cJ33_find 111 = .ok (.ifnull 33, 3) := dk_198 0 33 (dk_at dksJ33_find_4 20 rfl rfl)
theorem dJ33_find_114 : decode cJ33_find 114 = .ok (.aload_n 3, 1) := dk_45 (dk_at dksJ33_find_4 23 rfl rfl)
theorem dJ33_find_115 : decode cJ33_find 115 = .ok (.aload_n 2, 1) := dk_44 (dk_at dksJ33_find_5 0 rfl rfl)
theorem dJ33_find_116 : decode cJ33_find 116 = .ok (.aload 7, 2) := dk_25 7 (dk_at dksJ33_find_5 1 rfl rfl)
theorem dJ33_find_118 : decode cJ33_find 118 = .ok (.invokestatic 59, 3) := dk_184 0 59 (dk_at dksJ33_find_5 3 rfl rfl)
theorem dJ33_find_121 : decode cJ33_find 121 = .ok (.dup, 1) := dk_89 (dk_at dksJ33_find_5 6 rfl rfl)
theorem dJ33_find_122 : decode cJ33_find 122 = .ok (.istore 6, 2) := dk_54 6 (dk_at dksJ33_find_5 7 rfl rfl)
theorem dJ33_find_124 : decode cJ33_find 124 = .ok (.ifCond .eq 20, 3) := dk_153 0 20 (dk_at dksJ33_find_5 9 rfl rfl)
theorem dJ33_find_127 : decode cJ33_find 127 = .ok (.iload 6, 2) := dk_21 6 (dk_at dksJ33_find_5 12 rfl rfl)
theorem dJ33_find_129 : decode cJ33_find 129 = .ok (.ifCond .ge 8, 3) := dk_156 0 8 (dk_at dksJ33_find_5 14 rfl rfl)
theorem dJ33_find_132 : decode cJ33_find 132 = .ok (.aload 8, 2) := dk_25 8 (dk_at dksJ33_find_5 17 rfl rfl)
theorem dJ33_find_134 : decode cJ33_find 134 = .ok (.goto 5, 3) := dk_167 0 5 (dk_at dksJ33_find_5 19 rfl rfl)
theorem dJ33_find_137 : decode cJ33_find 137 = .ok (.aload 9, 2) := dk_25 9 (dk_at dksJ33_find_5 22 rfl rfl)
theorem dJ33_find_139 : decode cJ33_find 139 = .ok (.astore 4, 2) := dk_58 4 (dk_at dksJ33_find_6 0 rfl rfl)
theorem dJ33_find_141 : decode cJ33_find 141 = .ok (.goto 24, 3) := dk_167 0 24 (dk_at dksJ33_find_6 2 rfl rfl)
theorem dJ33_find_144 : decode cJ33_find 144 = .ok (.aload 9, 2) := dk_25 9 (dk_at dksJ33_find_6 5 rfl rfl)
theorem dJ33_find_146 : decode cJ33_find 146 = .ok (.iload_n 1, 1) := dk_27 (dk_at dksJ33_find_6 7 rfl rfl)
theorem dJ33_find_147 : decode cJ33_find 147 = .ok (.aload_n 2, 1) := dk_44 (dk_at dksJ33_find_6 8 rfl rfl)
theorem dJ33_find_148 : decode cJ33_find 148 = .ok (.aload_n 3, 1) := dk_45 (dk_at dksJ33_find_6 9 rfl rfl)
theorem dJ33_find_149 : decode cJ33_find 149 = .ok (.invokevirtual 63, 3) := dk_182 0 63 (dk_at dksJ33_find_6 10 rfl rfl)
theorem dJ33_find_152 : decode cJ33_find 152 = .ok (.dup, 1) := dk_89 (dk_at dksJ33_find_6 13 rfl rfl)
theorem dJ33_find_153 : decode cJ33_find 153 = .ok (.astore 10, 2) := dk_58 10 (dk_at dksJ33_find_6 14 rfl rfl)
theorem dJ33_find_155 : decode cJ33_find 155 = .ok (.ifnull 6, 3) := dk_198 0 6 (dk_at dksJ33_find_6 16 rfl rfl)
theorem dJ33_find_158 : decode cJ33_find 158 = .ok (.aload 10, 2) := dk_25 10 (dk_at dksJ33_find_6 19 rfl rfl)
theorem dJ33_find_160 : decode cJ33_find 160 = .ok (.areturn, 1) := dk_176 (dk_at dksJ33_find_6 21 rfl rfl)
theorem dJ33_find_161 : decode cJ33_find 161 = .ok (.aload 8, 2) := dk_25 8 (dk_at dksJ33_find_6 22 rfl rfl)
theorem dJ33_find_163 : decode cJ33_find 163 = .ok (.astore 4, 2) := dk_58 4 (dk_at dksJ33_find_7 0 rfl rfl)
theorem dJ33_find_165 : decode cJ33_find 165 = .ok (.aload 4, 2) := dk_25 4 (dk_at dksJ33_find_7 2 rfl rfl)
theorem dJ33_find_167 : decode cJ33_find 167 = .ok (.ifnonnull (-164), 3) := dk_199 255 92 (dk_at dksJ33_find_7 4 rfl rfl)
theorem dJ33_find_170 : decode cJ33_find 170 = .ok (.aconst_null, 1) := dk_1 (dk_at dksJ33_find_7 7 rfl rfl)
theorem dJ33_find_171 : decode cJ33_find 171 = .ok (.areturn, 1) := dk_176 (dk_at dksJ33_find_7 8 rfl rfl)
abbrev cJ33_init : ByteArray := prog_46_method_1_code
def yJ33_init : MethodName := ⟨RJ33, "<init>", "(ILjava/lang/Object;Ljava/lang/Object;Ljava/util/HashMap$Node;)V"⟩
def dkwJ33_init_0 : List UInt8 := [42, 27, 44, 45, 25, 4, 183, 0, 3, 177]
abbrev dktJ33_init_0 : List UInt8 := dkwJ33_init_0 ++ []
theorem dksJ33_init_0 : cJ33_init.data.toList.drop 0 = dktJ33_init_0 := by decide +kernel
theorem dJ33_init_0 : decode cJ33_init 0 = .ok (.aload_n 0, 1) := dk_42 (dk_at dksJ33_init_0 0 rfl rfl)
theorem dJ33_init_1 : decode cJ33_init 1 = .ok (.iload_n 1, 1) := dk_27 (dk_at dksJ33_init_0 1 rfl rfl)
theorem dJ33_init_2 : decode cJ33_init 2 = .ok (.aload_n 2, 1) := dk_44 (dk_at dksJ33_init_0 2 rfl rfl)
theorem dJ33_init_3 : decode cJ33_init 3 = .ok (.aload_n 3, 1) := dk_45 (dk_at dksJ33_init_0 3 rfl rfl)
theorem dJ33_init_4 : decode cJ33_init 4 = .ok (.aload 4, 2) := dk_25 4 (dk_at dksJ33_init_0 4 rfl rfl)
theorem dJ33_init_6 : decode cJ33_init 6 = .ok (.invokespecial 3, 3) := dk_183 0 3 (dk_at dksJ33_init_0 6 rfl rfl)
theorem dJ33_init_9 : decode cJ33_init 9 = .ok (.return_, 1) := dk_177 (dk_at dksJ33_init_0 9 rfl rfl)
abbrev cJ33_getTreeNode : ByteArray := prog_46_method_5_code
def yJ33_getTreeNode : MethodName := ⟨RJ33, "getTreeNode", "(ILjava/lang/Object;)Ljava/util/HashMap$TreeNode;"⟩
def dkwJ33_getTreeNode_0 : List UInt8 := [42, 180, 0, 9, 198, 0, 10, 42, 182, 0, 67, 167, 0, 4, 42, 27, 44, 1, 182, 0, 63, 176]
abbrev dktJ33_getTreeNode_0 : List UInt8 := dkwJ33_getTreeNode_0 ++ []
theorem dksJ33_getTreeNode_0 : cJ33_getTreeNode.data.toList.drop 0 = dktJ33_getTreeNode_0 := by decide +kernel
theorem dJ33_getTreeNode_0 : decode cJ33_getTreeNode 0 = .ok (.aload_n 0, 1) := dk_42 (dk_at dksJ33_getTreeNode_0 0 rfl rfl)
theorem dJ33_getTreeNode_1 : decode cJ33_getTreeNode 1 = .ok (.getfield 9, 3) := dk_180 0 9 (dk_at dksJ33_getTreeNode_0 1 rfl rfl)
theorem dJ33_getTreeNode_4 : decode cJ33_getTreeNode 4 = .ok (.ifnull 10, 3) := dk_198 0 10 (dk_at dksJ33_getTreeNode_0 4 rfl rfl)
theorem dJ33_getTreeNode_7 : decode cJ33_getTreeNode 7 = .ok (.aload_n 0, 1) := dk_42 (dk_at dksJ33_getTreeNode_0 7 rfl rfl)
theorem dJ33_getTreeNode_8 : decode cJ33_getTreeNode 8 = .ok (.invokevirtual 67, 3) := dk_182 0 67 (dk_at dksJ33_getTreeNode_0 8 rfl rfl)
theorem dJ33_getTreeNode_11 : decode cJ33_getTreeNode 11 = .ok (.goto 4, 3) := dk_167 0 4 (dk_at dksJ33_getTreeNode_0 11 rfl rfl)
theorem dJ33_getTreeNode_14 : decode cJ33_getTreeNode 14 = .ok (.aload_n 0, 1) := dk_42 (dk_at dksJ33_getTreeNode_0 14 rfl rfl)
theorem dJ33_getTreeNode_15 : decode cJ33_getTreeNode 15 = .ok (.iload_n 1, 1) := dk_27 (dk_at dksJ33_getTreeNode_0 15 rfl rfl)
theorem dJ33_getTreeNode_16 : decode cJ33_getTreeNode 16 = .ok (.aload_n 2, 1) := dk_44 (dk_at dksJ33_getTreeNode_0 16 rfl rfl)
theorem dJ33_getTreeNode_17 : decode cJ33_getTreeNode 17 = .ok (.aconst_null, 1) := dk_1 (dk_at dksJ33_getTreeNode_0 17 rfl rfl)
theorem dJ33_getTreeNode_18 : decode cJ33_getTreeNode 18 = .ok (.invokevirtual 63, 3) := dk_182 0 63 (dk_at dksJ33_getTreeNode_0 18 rfl rfl)
theorem dJ33_getTreeNode_21 : decode cJ33_getTreeNode 21 = .ok (.areturn, 1) := dk_176 (dk_at dksJ33_getTreeNode_0 21 rfl rfl)
abbrev cJ33_removeTreeNode : ByteArray := prog_46_method_10_code
def yJ33_removeTreeNode : MethodName := ⟨RJ33, "removeTreeNode", "(Ljava/util/HashMap;[Ljava/util/HashMap$Node;Z)V"⟩
def dkwJ33_removeTreeNode_27 : List UInt8 := [25, 15, 184, 0, 104, 177]
abbrev dktJ33_removeTreeNode_27 : List UInt8 := dkwJ33_removeTreeNode_27 ++ []
def dkwJ33_removeTreeNode_26 : List UInt8 := [167, 0, 19, 25, 11, 25, 16, 180, 0, 42, 166, 0, 9, 25, 16, 1, 181, 0, 42, 29, 153, 0, 9, 44]
abbrev dktJ33_removeTreeNode_26 : List UInt8 := dkwJ33_removeTreeNode_26 ++ dktJ33_removeTreeNode_27
def dkwJ33_removeTreeNode_25 : List UInt8 := [181, 0, 9, 25, 16, 198, 0, 38, 25, 11, 25, 16, 180, 0, 39, 166, 0, 12, 25, 16, 1, 181, 0, 39]
abbrev dktJ33_removeTreeNode_25 : List UInt8 := dkwJ33_removeTreeNode_25 ++ dktJ33_removeTreeNode_26
def dkwJ33_removeTreeNode_24 : List UInt8 := [184, 0, 123, 58, 15, 25, 14, 25, 11, 166, 0, 56, 25, 11, 180, 0, 9, 58, 16, 25, 11, 1]
abbrev dktJ33_removeTreeNode_24 : List UInt8 := dkwJ33_removeTreeNode_24 ++ dktJ33_removeTreeNode_25
def dkwJ33_removeTreeNode_23 : List UInt8 := [181, 0, 42, 181, 0, 39, 25, 11, 180, 0, 93, 153, 0, 8, 25, 7, 167, 0, 10, 25, 7, 25, 14]
abbrev dktJ33_removeTreeNode_23 : List UInt8 := dkwJ33_removeTreeNode_23 ++ dktJ33_removeTreeNode_24
def dkwJ33_removeTreeNode_22 : List UInt8 := [167, 0, 10, 25, 15, 25, 14, 181, 0, 42, 25, 11, 25, 11, 25, 11, 1, 90, 181, 0, 9, 90]
abbrev dktJ33_removeTreeNode_22 : List UInt8 := dkwJ33_removeTreeNode_22 ++ dktJ33_removeTreeNode_23
def dkwJ33_removeTreeNode_21 : List UInt8 := [181, 0, 93, 167, 0, 30, 25, 11, 25, 15, 180, 0, 39, 166, 0, 13, 25, 15, 25, 14, 181, 0, 39]
abbrev dktJ33_removeTreeNode_21 : List UInt8 := dkwJ33_removeTreeNode_21 ++ dktJ33_removeTreeNode_22
def dkwJ33_removeTreeNode_20 : List UInt8 := [25, 11, 180, 0, 9, 90, 181, 0, 9, 58, 15, 25, 15, 199, 0, 15, 25, 14, 89, 58, 7, 3]
abbrev dktJ33_removeTreeNode_20 : List UInt8 := dkwJ33_removeTreeNode_20 ++ dktJ33_removeTreeNode_21
def dkwJ33_removeTreeNode_19 : List UInt8 := [198, 0, 10, 25, 13, 58, 14, 167, 0, 7, 25, 11, 58, 14, 25, 14, 25, 11, 165, 0, 78, 25, 14]
abbrev dktJ33_removeTreeNode_19 : List UInt8 := dkwJ33_removeTreeNode_19 ++ dktJ33_removeTreeNode_20
def dkwJ33_removeTreeNode_18 : List UInt8 := [167, 0, 7, 25, 11, 58, 14, 167, 0, 31, 25, 12, 198, 0, 10, 25, 12, 58, 14, 167, 0, 19, 25, 13]
abbrev dktJ33_removeTreeNode_18 : List UInt8 := dkwJ33_removeTreeNode_18 ++ dktJ33_removeTreeNode_19
def dkwJ33_removeTreeNode_17 : List UInt8 := [181, 0, 39, 167, 0, 10, 25, 19, 25, 15, 181, 0, 42, 25, 18, 198, 0, 10, 25, 18, 58, 14]
abbrev dktJ33_removeTreeNode_17 : List UInt8 := dkwJ33_removeTreeNode_17 ++ dktJ33_removeTreeNode_18
def dkwJ33_removeTreeNode_16 : List UInt8 := [199, 0, 10, 25, 15, 58, 7, 167, 0, 30, 25, 11, 25, 19, 180, 0, 39, 166, 0, 13, 25, 19, 25, 15]
abbrev dktJ33_removeTreeNode_16 : List UInt8 := dkwJ33_removeTreeNode_16 ++ dktJ33_removeTreeNode_17
def dkwJ33_removeTreeNode_15 : List UInt8 := [25, 12, 90, 181, 0, 39, 198, 0, 10, 25, 12, 25, 15, 181, 0, 9, 25, 15, 25, 19, 90, 181, 0, 9]
abbrev dktJ33_removeTreeNode_15 : List UInt8 := dkwJ33_removeTreeNode_15 ++ dktJ33_removeTreeNode_16
def dkwJ33_removeTreeNode_14 : List UInt8 := [181, 0, 39, 25, 11, 25, 18, 90, 181, 0, 42, 198, 0, 10, 25, 18, 25, 11, 181, 0, 9, 25, 15]
abbrev dktJ33_removeTreeNode_14 : List UInt8 := dkwJ33_removeTreeNode_14 ++ dktJ33_removeTreeNode_15
def dkwJ33_removeTreeNode_13 : List UInt8 := [181, 0, 42, 25, 15, 25, 13, 90, 181, 0, 42, 198, 0, 10, 25, 13, 25, 15, 181, 0, 9, 25, 11, 1]
abbrev dktJ33_removeTreeNode_13 : List UInt8 := dkwJ33_removeTreeNode_13 ++ dktJ33_removeTreeNode_14
def dkwJ33_removeTreeNode_12 : List UInt8 := [25, 15, 25, 20, 180, 0, 39, 166, 0, 13, 25, 20, 25, 11, 181, 0, 39, 167, 0, 10, 25, 20, 25, 11]
abbrev dktJ33_removeTreeNode_12 : List UInt8 := dkwJ33_removeTreeNode_12 ++ dktJ33_removeTreeNode_13
def dkwJ33_removeTreeNode_11 : List UInt8 := [181, 0, 42, 167, 0, 66, 25, 15, 180, 0, 9, 58, 20, 25, 11, 25, 20, 90, 181, 0, 9, 198, 0, 30]
abbrev dktJ33_removeTreeNode_11 : List UInt8 := dkwJ33_removeTreeNode_11 ++ dktJ33_removeTreeNode_12
def dkwJ33_removeTreeNode_10 : List UInt8 := [180, 0, 9, 58, 19, 25, 15, 25, 13, 166, 0, 20, 25, 11, 25, 15, 181, 0, 9, 25, 15, 25, 11]
abbrev dktJ33_removeTreeNode_10 : List UInt8 := dkwJ33_removeTreeNode_10 ++ dktJ33_removeTreeNode_11
def dkwJ33_removeTreeNode_9 : List UInt8 := [180, 0, 93, 181, 0, 93, 25, 11, 21, 17, 181, 0, 93, 25, 15, 180, 0, 42, 58, 18, 25, 11]
abbrev dktJ33_removeTreeNode_9 : List UInt8 := dkwJ33_removeTreeNode_9 ++ dktJ33_removeTreeNode_10
def dkwJ33_removeTreeNode_8 : List UInt8 := [89, 58, 16, 198, 0, 10, 25, 16, 58, 15, 167, 255, 241, 25, 15, 180, 0, 93, 54, 17, 25, 15, 25, 11]
abbrev dktJ33_removeTreeNode_8 : List UInt8 := dkwJ33_removeTreeNode_8 ++ dktJ33_removeTreeNode_9
def dkwJ33_removeTreeNode_7 : List UInt8 := [180, 0, 42, 58, 13, 25, 12, 198, 1, 5, 25, 13, 198, 1, 0, 25, 13, 58, 15, 25, 15, 180, 0, 39]
abbrev dktJ33_removeTreeNode_7 : List UInt8 := dkwJ33_removeTreeNode_7 ++ dktJ33_removeTreeNode_8
def dkwJ33_removeTreeNode_6 : List UInt8 := [199, 0, 14, 44, 21, 5, 25, 6, 43, 182, 0, 119, 83, 177, 42, 58, 11, 42, 180, 0, 39, 58, 12, 42]
abbrev dktJ33_removeTreeNode_6 : List UInt8 := dkwJ33_removeTreeNode_6 ++ dktJ33_removeTreeNode_7
def dkwJ33_removeTreeNode_5 : List UInt8 := [25, 7, 180, 0, 42, 198, 0, 22, 25, 7, 180, 0, 39, 89, 58, 8, 198, 0, 11, 25, 8, 180, 0, 39]
abbrev dktJ33_removeTreeNode_5 : List UInt8 := dkwJ33_removeTreeNode_5 ++ dktJ33_removeTreeNode_6
def dkwJ33_removeTreeNode_4 : List UInt8 := [25, 7, 180, 0, 9, 198, 0, 10, 25, 7, 182, 0, 67, 58, 7, 25, 7, 198, 0, 34, 29, 153, 0, 41]
abbrev dktJ33_removeTreeNode_4 : List UInt8 := dkwJ33_removeTreeNode_4 ++ dktJ33_removeTreeNode_5
def dkwJ33_removeTreeNode_3 : List UInt8 := [25, 9, 181, 0, 22, 25, 9, 198, 0, 10, 25, 9, 25, 10, 181, 0, 19, 25, 6, 199, 0, 4, 177]
abbrev dktJ33_removeTreeNode_3 : List UInt8 := dkwJ33_removeTreeNode_3 ++ dktJ33_removeTreeNode_4
def dkwJ33_removeTreeNode_2 : List UInt8 := [180, 0, 19, 58, 10, 25, 10, 199, 0, 15, 44, 21, 5, 25, 9, 89, 58, 6, 83, 167, 0, 10, 25, 10]
abbrev dktJ33_removeTreeNode_2 : List UInt8 := dkwJ33_removeTreeNode_2 ++ dktJ33_removeTreeNode_3
def dkwJ33_removeTreeNode_1 : List UInt8 := [44, 21, 5, 50, 192, 0, 10, 58, 6, 25, 6, 58, 7, 42, 180, 0, 22, 192, 0, 10, 58, 9, 42]
abbrev dktJ33_removeTreeNode_1 : List UInt8 := dkwJ33_removeTreeNode_1 ++ dktJ33_removeTreeNode_2
def dkwJ33_removeTreeNode_0 : List UInt8 := [44, 198, 0, 11, 44, 190, 89, 54, 4, 154, 0, 4, 177, 21, 4, 4, 100, 42, 180, 0, 15, 126, 54, 5]
abbrev dktJ33_removeTreeNode_0 : List UInt8 := dkwJ33_removeTreeNode_0 ++ dktJ33_removeTreeNode_1
theorem dksJ33_removeTreeNode_0 : cJ33_removeTreeNode.data.toList.drop 0 = dktJ33_removeTreeNode_0 := by decide +kernel
theorem dksJ33_removeTreeNode_1 : cJ33_removeTreeNode.data.toList.drop 24 = dktJ33_removeTreeNode_1 := dk_seg dksJ33_removeTreeNode_0 24 rfl rfl
theorem dksJ33_removeTreeNode_2 : cJ33_removeTreeNode.data.toList.drop 47 = dktJ33_removeTreeNode_2 := dk_seg dksJ33_removeTreeNode_1 23 rfl rfl
theorem dksJ33_removeTreeNode_3 : cJ33_removeTreeNode.data.toList.drop 71 = dktJ33_removeTreeNode_3 := dk_seg dksJ33_removeTreeNode_2 24 rfl rfl
theorem dksJ33_removeTreeNode_4 : cJ33_removeTreeNode.data.toList.drop 94 = dktJ33_removeTreeNode_4 := dk_seg dksJ33_removeTreeNode_3 23 rfl rfl
theorem dksJ33_removeTreeNode_5 : cJ33_removeTreeNode.data.toList.drop 118 = dktJ33_removeTreeNode_5 := dk_seg dksJ33_removeTreeNode_4 24 rfl rfl
theorem dksJ33_removeTreeNode_6 : cJ33_removeTreeNode.data.toList.drop 142 = dktJ33_removeTreeNode_6 := dk_seg dksJ33_removeTreeNode_5 24 rfl rfl
theorem dksJ33_removeTreeNode_7 : cJ33_removeTreeNode.data.toList.drop 166 = dktJ33_removeTreeNode_7 := dk_seg dksJ33_removeTreeNode_6 24 rfl rfl
theorem dksJ33_removeTreeNode_8 : cJ33_removeTreeNode.data.toList.drop 190 = dktJ33_removeTreeNode_8 := dk_seg dksJ33_removeTreeNode_7 24 rfl rfl
theorem dksJ33_removeTreeNode_9 : cJ33_removeTreeNode.data.toList.drop 214 = dktJ33_removeTreeNode_9 := dk_seg dksJ33_removeTreeNode_8 24 rfl rfl
theorem dksJ33_removeTreeNode_10 : cJ33_removeTreeNode.data.toList.drop 236 = dktJ33_removeTreeNode_10 := dk_seg dksJ33_removeTreeNode_9 22 rfl rfl
theorem dksJ33_removeTreeNode_11 : cJ33_removeTreeNode.data.toList.drop 259 = dktJ33_removeTreeNode_11 := dk_seg dksJ33_removeTreeNode_10 23 rfl rfl
theorem dksJ33_removeTreeNode_12 : cJ33_removeTreeNode.data.toList.drop 283 = dktJ33_removeTreeNode_12 := dk_seg dksJ33_removeTreeNode_11 24 rfl rfl
theorem dksJ33_removeTreeNode_13 : cJ33_removeTreeNode.data.toList.drop 307 = dktJ33_removeTreeNode_13 := dk_seg dksJ33_removeTreeNode_12 24 rfl rfl
theorem dksJ33_removeTreeNode_14 : cJ33_removeTreeNode.data.toList.drop 331 = dktJ33_removeTreeNode_14 := dk_seg dksJ33_removeTreeNode_13 24 rfl rfl
theorem dksJ33_removeTreeNode_15 : cJ33_removeTreeNode.data.toList.drop 354 = dktJ33_removeTreeNode_15 := dk_seg dksJ33_removeTreeNode_14 23 rfl rfl
theorem dksJ33_removeTreeNode_16 : cJ33_removeTreeNode.data.toList.drop 378 = dktJ33_removeTreeNode_16 := dk_seg dksJ33_removeTreeNode_15 24 rfl rfl
theorem dksJ33_removeTreeNode_17 : cJ33_removeTreeNode.data.toList.drop 402 = dktJ33_removeTreeNode_17 := dk_seg dksJ33_removeTreeNode_16 24 rfl rfl
theorem dksJ33_removeTreeNode_18 : cJ33_removeTreeNode.data.toList.drop 424 = dktJ33_removeTreeNode_18 := dk_seg dksJ33_removeTreeNode_17 22 rfl rfl
theorem dksJ33_removeTreeNode_19 : cJ33_removeTreeNode.data.toList.drop 448 = dktJ33_removeTreeNode_19 := dk_seg dksJ33_removeTreeNode_18 24 rfl rfl
theorem dksJ33_removeTreeNode_20 : cJ33_removeTreeNode.data.toList.drop 471 = dktJ33_removeTreeNode_20 := dk_seg dksJ33_removeTreeNode_19 23 rfl rfl
theorem dksJ33_removeTreeNode_21 : cJ33_removeTreeNode.data.toList.drop 493 = dktJ33_removeTreeNode_21 := dk_seg dksJ33_removeTreeNode_20 22 rfl rfl
theorem dksJ33_removeTreeNode_22 : cJ33_removeTreeNode.data.toList.drop 516 = dktJ33_removeTreeNode_22 := dk_seg dksJ33_removeTreeNode_21 23 rfl rfl
theorem dksJ33_removeTreeNode_23 : cJ33_removeTreeNode.data.toList.drop 538 = dktJ33_removeTreeNode_23 := dk_seg dksJ33_removeTreeNode_22 22 rfl rfl
theorem dksJ33_removeTreeNode_24 : cJ33_removeTreeNode.data.toList.drop 561 = dktJ33_removeTreeNode_24 := dk_seg dksJ33_removeTreeNode_23 23 rfl rfl
theorem dksJ33_removeTreeNode_25 : cJ33_removeTreeNode.data.toList.drop 583 = dktJ33_removeTreeNode_25 := dk_seg dksJ33_removeTreeNode_24 22 rfl rfl
theorem dksJ33_removeTreeNode_26 : cJ33_removeTreeNode.data.toList.drop 607 = dktJ33_removeTreeNode_26 := dk_seg dksJ33_removeTreeNode_25 24 rfl rfl
theorem dksJ33_removeTreeNode_27 : cJ33_removeTreeNode.data.toList.drop 631 = dktJ33_removeTreeNode_27 := dk_seg dksJ33_removeTreeNode_26 24 rfl rfl
theorem dJ33_removeTreeNode_0 : decode cJ33_removeTreeNode 0 = .ok (.aload_n 2, 1) := dk_44 (dk_at dksJ33_removeTreeNode_0 0 rfl rfl)
theorem dJ33_removeTreeNode_1 : decode cJ33_removeTreeNode 1 = .ok (.ifnull 11, 3) := dk_198 0 11 (dk_at dksJ33_removeTreeNode_0 1 rfl rfl)
theorem dJ33_removeTreeNode_4 : decode cJ33_removeTreeNode 4 = .ok (.aload_n 2, 1) := dk_44 (dk_at dksJ33_removeTreeNode_0 4 rfl rfl)
theorem dJ33_removeTreeNode_5 : decode cJ33_removeTreeNode 5 = .ok (.arraylength, 1) := dk_190 (dk_at dksJ33_removeTreeNode_0 5 rfl rfl)
theorem dJ33_removeTreeNode_6 : decode cJ33_removeTreeNode 6 = .ok (.dup, 1) := dk_89 (dk_at dksJ33_removeTreeNode_0 6 rfl rfl)
theorem dJ33_removeTreeNode_7 : decode cJ33_removeTreeNode 7 = .ok (.istore 4, 2) := dk_54 4 (dk_at dksJ33_removeTreeNode_0 7 rfl rfl)
theorem dJ33_removeTreeNode_9 : decode cJ33_removeTreeNode 9 = .ok (.ifCond .ne 4, 3) := dk_154 0 4 (dk_at dksJ33_removeTreeNode_0 9 rfl rfl)
theorem dJ33_removeTreeNode_12 : decode cJ33_removeTreeNode 12 = .ok (.return_, 1) := dk_177 (dk_at dksJ33_removeTreeNode_0 12 rfl rfl)
theorem dJ33_removeTreeNode_13 : decode cJ33_removeTreeNode 13 = .ok (.iload 4, 2) := dk_21 4 (dk_at dksJ33_removeTreeNode_0 13 rfl rfl)
theorem dJ33_removeTreeNode_15 : decode cJ33_removeTreeNode 15 = .ok (.iconst 1, 1) := dk_4 (dk_at dksJ33_removeTreeNode_0 15 rfl rfl)
theorem dJ33_removeTreeNode_16 : decode cJ33_removeTreeNode 16 = .ok (.isub, 1) := dk_100 (dk_at dksJ33_removeTreeNode_0 16 rfl rfl)
theorem dJ33_removeTreeNode_17 : decode cJ33_removeTreeNode 17 = .ok (.aload_n 0, 1) := dk_42 (dk_at dksJ33_removeTreeNode_0 17 rfl rfl)
theorem dJ33_removeTreeNode_18 : decode cJ33_removeTreeNode 18 = .ok (.getfield 15, 3) := dk_180 0 15 (dk_at dksJ33_removeTreeNode_0 18 rfl rfl)
theorem dJ33_removeTreeNode_21 : decode cJ33_removeTreeNode 21 = .ok (.iand, 1) := dk_126 (dk_at dksJ33_removeTreeNode_0 21 rfl rfl)
theorem dJ33_removeTreeNode_22 : decode cJ33_removeTreeNode 22 = .ok (.istore 5, 2) := dk_54 5 (dk_at dksJ33_removeTreeNode_0 22 rfl rfl)
theorem dJ33_removeTreeNode_24 : decode cJ33_removeTreeNode 24 = .ok (.aload_n 2, 1) := dk_44 (dk_at dksJ33_removeTreeNode_1 0 rfl rfl)
theorem dJ33_removeTreeNode_25 : decode cJ33_removeTreeNode 25 = .ok (.iload 5, 2) := dk_21 5 (dk_at dksJ33_removeTreeNode_1 1 rfl rfl)
theorem dJ33_removeTreeNode_27 : decode cJ33_removeTreeNode 27 = .ok (.aaload, 1) := dk_50 (dk_at dksJ33_removeTreeNode_1 3 rfl rfl)
theorem dJ33_removeTreeNode_28 : decode cJ33_removeTreeNode 28 = .ok (.checkcast 10, 3) := dk_192 0 10 (dk_at dksJ33_removeTreeNode_1 4 rfl rfl)
theorem dJ33_removeTreeNode_31 : decode cJ33_removeTreeNode 31 = .ok (.astore 6, 2) := dk_58 6 (dk_at dksJ33_removeTreeNode_1 7 rfl rfl)
theorem dJ33_removeTreeNode_33 : decode cJ33_removeTreeNode 33 = .ok (.aload 6, 2) := dk_25 6 (dk_at dksJ33_removeTreeNode_1 9 rfl rfl)
theorem dJ33_removeTreeNode_35 : decode cJ33_removeTreeNode 35 = .ok (.astore 7, 2) := dk_58 7 (dk_at dksJ33_removeTreeNode_1 11 rfl rfl)
theorem dJ33_removeTreeNode_37 : decode cJ33_removeTreeNode 37 = .ok (.aload_n 0, 1) := dk_42 (dk_at dksJ33_removeTreeNode_1 13 rfl rfl)
theorem dJ33_removeTreeNode_38 : decode cJ33_removeTreeNode 38 = .ok (.getfield 22, 3) := dk_180 0 22 (dk_at dksJ33_removeTreeNode_1 14 rfl rfl)
theorem dJ33_removeTreeNode_41 : decode cJ33_removeTreeNode 41 = .ok (.checkcast 10, 3) := dk_192 0 10 (dk_at dksJ33_removeTreeNode_1 17 rfl rfl)
theorem dJ33_removeTreeNode_44 : decode cJ33_removeTreeNode 44 = .ok (.astore 9, 2) := dk_58 9 (dk_at dksJ33_removeTreeNode_1 20 rfl rfl)
theorem dJ33_removeTreeNode_46 : decode cJ33_removeTreeNode 46 = .ok (.aload_n 0, 1) := dk_42 (dk_at dksJ33_removeTreeNode_1 22 rfl rfl)
theorem dJ33_removeTreeNode_47 : decode cJ33_removeTreeNode 47 = .ok (.getfield 19, 3) := dk_180 0 19 (dk_at dksJ33_removeTreeNode_2 0 rfl rfl)
theorem dJ33_removeTreeNode_50 : decode cJ33_removeTreeNode 50 = .ok (.astore 10, 2) := dk_58 10 (dk_at dksJ33_removeTreeNode_2 3 rfl rfl)
theorem dJ33_removeTreeNode_52 : decode cJ33_removeTreeNode 52 = .ok (.aload 10, 2) := dk_25 10 (dk_at dksJ33_removeTreeNode_2 5 rfl rfl)
theorem dJ33_removeTreeNode_54 : decode cJ33_removeTreeNode 54 = .ok (.ifnonnull 15, 3) := dk_199 0 15 (dk_at dksJ33_removeTreeNode_2 7 rfl rfl)
theorem dJ33_removeTreeNode_57 : decode cJ33_removeTreeNode 57 = .ok (.aload_n 2, 1) := dk_44 (dk_at dksJ33_removeTreeNode_2 10 rfl rfl)
theorem dJ33_removeTreeNode_58 : decode cJ33_removeTreeNode 58 = .ok (.iload 5, 2) := dk_21 5 (dk_at dksJ33_removeTreeNode_2 11 rfl rfl)
theorem dJ33_removeTreeNode_60 : decode cJ33_removeTreeNode 60 = .ok (.aload 9, 2) := dk_25 9 (dk_at dksJ33_removeTreeNode_2 13 rfl rfl)
theorem dJ33_removeTreeNode_62 : decode cJ33_removeTreeNode 62 = .ok (.dup, 1) := dk_89 (dk_at dksJ33_removeTreeNode_2 15 rfl rfl)
theorem dJ33_removeTreeNode_63 : decode cJ33_removeTreeNode 63 = .ok (.astore 6, 2) := dk_58 6 (dk_at dksJ33_removeTreeNode_2 16 rfl rfl)
theorem dJ33_removeTreeNode_65 : decode cJ33_removeTreeNode 65 = .ok (.aastore, 1) := dk_83 (dk_at dksJ33_removeTreeNode_2 18 rfl rfl)
theorem dJ33_removeTreeNode_66 : decode cJ33_removeTreeNode 66 = .ok (.goto 10, 3) := dk_167 0 10 (dk_at dksJ33_removeTreeNode_2 19 rfl rfl)
theorem dJ33_removeTreeNode_69 : decode cJ33_removeTreeNode 69 = .ok (.aload 10, 2) := dk_25 10 (dk_at dksJ33_removeTreeNode_2 22 rfl rfl)
theorem dJ33_removeTreeNode_71 : decode cJ33_removeTreeNode 71 = .ok (.aload 9, 2) := dk_25 9 (dk_at dksJ33_removeTreeNode_3 0 rfl rfl)
theorem dJ33_removeTreeNode_73 : decode cJ33_removeTreeNode 73 = .ok (.putfield 22, 3) := dk_181 0 22 (dk_at dksJ33_removeTreeNode_3 2 rfl rfl)
theorem dJ33_removeTreeNode_76 : decode cJ33_removeTreeNode 76 = .ok (.aload 9, 2) := dk_25 9 (dk_at dksJ33_removeTreeNode_3 5 rfl rfl)
theorem dJ33_removeTreeNode_78 : decode cJ33_removeTreeNode 78 = .ok (.ifnull 10, 3) := dk_198 0 10 (dk_at dksJ33_removeTreeNode_3 7 rfl rfl)
theorem dJ33_removeTreeNode_81 : decode cJ33_removeTreeNode 81 = .ok (.aload 9, 2) := dk_25 9 (dk_at dksJ33_removeTreeNode_3 10 rfl rfl)
theorem dJ33_removeTreeNode_83 : decode cJ33_removeTreeNode 83 = .ok (.aload 10, 2) := dk_25 10 (dk_at dksJ33_removeTreeNode_3 12 rfl rfl)
theorem dJ33_removeTreeNode_85 : decode cJ33_removeTreeNode 85 = .ok (.putfield 19, 3) := dk_181 0 19 (dk_at dksJ33_removeTreeNode_3 14 rfl rfl)
theorem dJ33_removeTreeNode_88 : decode cJ33_removeTreeNode 88 = .ok (.aload 6, 2) := dk_25 6 (dk_at dksJ33_removeTreeNode_3 17 rfl rfl)
theorem dJ33_removeTreeNode_90 : decode cJ33_removeTreeNode 90 = .ok (.ifnonnull 4, 3) := dk_199 0 4 (dk_at dksJ33_removeTreeNode_3 19 rfl rfl)
theorem dJ33_removeTreeNode_93 : decode cJ33_removeTreeNode 93 = .ok (.return_, 1) := dk_177 (dk_at dksJ33_removeTreeNode_3 22 rfl rfl)
theorem dJ33_removeTreeNode_94 : decode cJ33_removeTreeNode 94 = .ok (.aload 7, 2) := dk_25 7 (dk_at dksJ33_removeTreeNode_4 0 rfl rfl)
theorem dJ33_removeTreeNode_96 : decode cJ33_removeTreeNode 96 = .ok (.getfield 9, 3) := dk_180 0 9 (dk_at dksJ33_removeTreeNode_4 2 rfl rfl)
theorem dJ33_removeTreeNode_99 : decode cJ33_removeTreeNode 99 = .ok (.ifnull 10, 3) := dk_198 0 10 (dk_at dksJ33_removeTreeNode_4 5 rfl rfl)
theorem dJ33_removeTreeNode_102 : decode cJ33_removeTreeNode 102 = .ok (.aload 7, 2) := dk_25 7 (dk_at dksJ33_removeTreeNode_4 8 rfl rfl)
theorem dJ33_removeTreeNode_104 : decode cJ33_removeTreeNode 104 = .ok (.invokevirtual 67, 3) := dk_182 0 67 (dk_at dksJ33_removeTreeNode_4 10 rfl rfl)
theorem dJ33_removeTreeNode_107 : decode cJ33_removeTreeNode 107 = .ok (.astore 7, 2) := dk_58 7 (dk_at dksJ33_removeTreeNode_4 13 rfl rfl)
theorem dJ33_removeTreeNode_109 : decode cJ33_removeTreeNode 109 = .ok (.aload 7, 2) := dk_25 7 (dk_at dksJ33_removeTreeNode_4 15 rfl rfl)
theorem dJ33_removeTreeNode_111 : decode cJ33_removeTreeNode 111 = .ok (.ifnull 34, 3) := dk_198 0 34 (dk_at dksJ33_removeTreeNode_4 17 rfl rfl)
theorem dJ33_removeTreeNode_114 : decode cJ33_removeTreeNode 114 = .ok (.iload_n 3, 1) := dk_29 (dk_at dksJ33_removeTreeNode_4 20 rfl rfl)
theorem dJ33_removeTreeNode_115 : decode cJ33_removeTreeNode 115 = .ok (.ifCond .eq 41, 3) := dk_153 0 41 (dk_at dksJ33_removeTreeNode_4 21 rfl rfl)
theorem dJ33_removeTreeNode_118 : decode cJ33_removeTreeNode 118 = .ok (.aload 7, 2) := dk_25 7 (dk_at dksJ33_removeTreeNode_5 0 rfl rfl)
theorem dJ33_removeTreeNode_120 : decode cJ33_removeTreeNode 120 = .ok (.getfield 42, 3) := dk_180 0 42 (dk_at dksJ33_removeTreeNode_5 2 rfl rfl)
theorem dJ33_removeTreeNode_123 : decode cJ33_removeTreeNode 123 = .ok (.ifnull 22, 3) := dk_198 0 22 (dk_at dksJ33_removeTreeNode_5 5 rfl rfl)
theorem dJ33_removeTreeNode_126 : decode cJ33_removeTreeNode 126 = .ok (.aload 7, 2) := dk_25 7 (dk_at dksJ33_removeTreeNode_5 8 rfl rfl)
theorem dJ33_removeTreeNode_128 : decode cJ33_removeTreeNode 128 = .ok (.getfield 39, 3) := dk_180 0 39 (dk_at dksJ33_removeTreeNode_5 10 rfl rfl)
theorem dJ33_removeTreeNode_131 : decode cJ33_removeTreeNode 131 = .ok (.dup, 1) := dk_89 (dk_at dksJ33_removeTreeNode_5 13 rfl rfl)
theorem dJ33_removeTreeNode_132 : decode cJ33_removeTreeNode 132 = .ok (.astore 8, 2) := dk_58 8 (dk_at dksJ33_removeTreeNode_5 14 rfl rfl)
theorem dJ33_removeTreeNode_134 : decode cJ33_removeTreeNode 134 = .ok (.ifnull 11, 3) := dk_198 0 11 (dk_at dksJ33_removeTreeNode_5 16 rfl rfl)
theorem dJ33_removeTreeNode_137 : decode cJ33_removeTreeNode 137 = .ok (.aload 8, 2) := dk_25 8 (dk_at dksJ33_removeTreeNode_5 19 rfl rfl)
theorem dJ33_removeTreeNode_139 : decode cJ33_removeTreeNode 139 = .ok (.getfield 39, 3) := dk_180 0 39 (dk_at dksJ33_removeTreeNode_5 21 rfl rfl)
theorem dJ33_removeTreeNode_142 : decode cJ33_removeTreeNode 142 = .ok (.ifnonnull 14, 3) := dk_199 0 14 (dk_at dksJ33_removeTreeNode_6 0 rfl rfl)
theorem dJ33_removeTreeNode_145 : decode cJ33_removeTreeNode 145 = .ok (.aload_n 2, 1) := dk_44 (dk_at dksJ33_removeTreeNode_6 3 rfl rfl)
theorem dJ33_removeTreeNode_146 : decode cJ33_removeTreeNode 146 = .ok (.iload 5, 2) := dk_21 5 (dk_at dksJ33_removeTreeNode_6 4 rfl rfl)
theorem dJ33_removeTreeNode_148 : decode cJ33_removeTreeNode 148 = .ok (.aload 6, 2) := dk_25 6 (dk_at dksJ33_removeTreeNode_6 6 rfl rfl)
theorem dJ33_removeTreeNode_150 : decode cJ33_removeTreeNode 150 = .ok (.aload_n 1, 1) := dk_43 (dk_at dksJ33_removeTreeNode_6 8 rfl rfl)
theorem dJ33_removeTreeNode_151 : decode cJ33_removeTreeNode 151 = .ok (.invokevirtual 119, 3) := dk_182 0 119 (dk_at dksJ33_removeTreeNode_6 9 rfl rfl)
theorem dJ33_removeTreeNode_154 : decode cJ33_removeTreeNode 154 = .ok (.aastore, 1) := dk_83 (dk_at dksJ33_removeTreeNode_6 12 rfl rfl)
theorem dJ33_removeTreeNode_155 : decode cJ33_removeTreeNode 155 = .ok (.return_, 1) := dk_177 (dk_at dksJ33_removeTreeNode_6 13 rfl rfl)
theorem dJ33_removeTreeNode_156 : decode cJ33_removeTreeNode 156 = .ok (.aload_n 0, 1) := dk_42 (dk_at dksJ33_removeTreeNode_6 14 rfl rfl)
theorem dJ33_removeTreeNode_157 : decode cJ33_removeTreeNode 157 = .ok (.astore 11, 2) := dk_58 11 (dk_at dksJ33_removeTreeNode_6 15 rfl rfl)
theorem dJ33_removeTreeNode_159 : decode cJ33_removeTreeNode 159 = .ok (.aload_n 0, 1) := dk_42 (dk_at dksJ33_removeTreeNode_6 17 rfl rfl)
theorem dJ33_removeTreeNode_160 : decode cJ33_removeTreeNode 160 = .ok (.getfield 39, 3) := dk_180 0 39 (dk_at dksJ33_removeTreeNode_6 18 rfl rfl)
theorem dJ33_removeTreeNode_163 : decode cJ33_removeTreeNode 163 = .ok (.astore 12, 2) := dk_58 12 (dk_at dksJ33_removeTreeNode_6 21 rfl rfl)
theorem dJ33_removeTreeNode_165 : decode cJ33_removeTreeNode 165 = .ok (.aload_n 0, 1) := dk_42 (dk_at dksJ33_removeTreeNode_6 23 rfl rfl)
theorem dJ33_removeTreeNode_166 : decode cJ33_removeTreeNode 166 = .ok (.getfield 42, 3) := dk_180 0 42 (dk_at dksJ33_removeTreeNode_7 0 rfl rfl)
theorem dJ33_removeTreeNode_169 : decode cJ33_removeTreeNode 169 = .ok (.astore 13, 2) := dk_58 13 (dk_at dksJ33_removeTreeNode_7 3 rfl rfl)
theorem dJ33_removeTreeNode_171 : decode cJ33_removeTreeNode 171 = .ok (.aload 12, 2) := dk_25 12 (dk_at dksJ33_removeTreeNode_7 5 rfl rfl)
theorem dJ33_removeTreeNode_173 : decode cJ33_removeTreeNode 173 = .ok (.ifnull 261, 3) := dk_198 1 5 (dk_at dksJ33_removeTreeNode_7 7 rfl rfl)
theorem dJ33_removeTreeNode_176 : decode cJ33_removeTreeNode 176 = .ok (.aload 13, 2) := dk_25 13 (dk_at dksJ33_removeTreeNode_7 10 rfl rfl)
theorem dJ33_removeTreeNode_178 : decode cJ33_removeTreeNode 178 = .ok (.ifnull 256, 3) := dk_198 1 0 (dk_at dksJ33_removeTreeNode_7 12 rfl rfl)
theorem dJ33_removeTreeNode_181 : decode cJ33_removeTreeNode 181 = .ok (.aload 13, 2) := dk_25 13 (dk_at dksJ33_removeTreeNode_7 15 rfl rfl)
theorem dJ33_removeTreeNode_183 : decode cJ33_removeTreeNode 183 = .ok (.astore 15, 2) := dk_58 15 (dk_at dksJ33_removeTreeNode_7 17 rfl rfl)
theorem dJ33_removeTreeNode_185 : decode cJ33_removeTreeNode 185 = .ok (.aload 15, 2) := dk_25 15 (dk_at dksJ33_removeTreeNode_7 19 rfl rfl)
theorem dJ33_removeTreeNode_187 : decode cJ33_removeTreeNode 187 = .ok (.getfield 39, 3) := dk_180 0 39 (dk_at dksJ33_removeTreeNode_7 21 rfl rfl)
theorem dJ33_removeTreeNode_190 : decode cJ33_removeTreeNode 190 = .ok (.dup, 1) := dk_89 (dk_at dksJ33_removeTreeNode_8 0 rfl rfl)
theorem dJ33_removeTreeNode_191 : decode cJ33_removeTreeNode 191 = .ok (.astore 16, 2) := dk_58 16 (dk_at dksJ33_removeTreeNode_8 1 rfl rfl)
theorem dJ33_removeTreeNode_193 : decode cJ33_removeTreeNode 193 = .ok (.ifnull 10, 3) := dk_198 0 10 (dk_at dksJ33_removeTreeNode_8 3 rfl rfl)
theorem dJ33_removeTreeNode_196 : decode cJ33_removeTreeNode 196 = .ok (.aload 16, 2) := dk_25 16 (dk_at dksJ33_removeTreeNode_8 6 rfl rfl)
theorem dJ33_removeTreeNode_198 : decode cJ33_removeTreeNode 198 = .ok (.astore 15, 2) := dk_58 15 (dk_at dksJ33_removeTreeNode_8 8 rfl rfl)
theorem dJ33_removeTreeNode_200 : decode cJ33_removeTreeNode 200 = .ok (.goto (-15), 3) := dk_167 255 241 (dk_at dksJ33_removeTreeNode_8 10 rfl rfl)
theorem dJ33_removeTreeNode_203 : decode cJ33_removeTreeNode 203 = .ok (.aload 15, 2) := dk_25 15 (dk_at dksJ33_removeTreeNode_8 13 rfl rfl)
theorem dJ33_removeTreeNode_205 : decode cJ33_removeTreeNode 205 = .ok (.getfield 93, 3) := dk_180 0 93 (dk_at dksJ33_removeTreeNode_8 15 rfl rfl)
theorem dJ33_removeTreeNode_208 : decode cJ33_removeTreeNode 208 = .ok (.istore 17, 2) := dk_54 17 (dk_at dksJ33_removeTreeNode_8 18 rfl rfl)
theorem dJ33_removeTreeNode_210 : decode cJ33_removeTreeNode 210 = .ok (.aload 15, 2) := dk_25 15 (dk_at dksJ33_removeTreeNode_8 20 rfl rfl)
theorem dJ33_removeTreeNode_212 : decode cJ33_removeTreeNode 212 = .ok (.aload 11, 2) := dk_25 11 (dk_at dksJ33_removeTreeNode_8 22 rfl rfl)
theorem dJ33_removeTreeNode_214 : decode cJ33_removeTreeNode 214 = .ok (.getfield 93, 3) := dk_180 0 93 (dk_at dksJ33_removeTreeNode_9 0 rfl rfl)
theorem dJ33_removeTreeNode_217 : decode cJ33_removeTreeNode 217 = .ok (.putfield 93, 3) := dk_181 0 93 (dk_at dksJ33_removeTreeNode_9 3 rfl rfl)
theorem dJ33_removeTreeNode_220 : decode cJ33_removeTreeNode 220 = .ok (.aload 11, 2) := dk_25 11 (dk_at dksJ33_removeTreeNode_9 6 rfl rfl)
theorem dJ33_removeTreeNode_222 : decode cJ33_removeTreeNode 222 = .ok (.iload 17, 2) := dk_21 17 (dk_at dksJ33_removeTreeNode_9 8 rfl rfl)
theorem dJ33_removeTreeNode_224 : decode cJ33_removeTreeNode 224 = .ok (.putfield 93, 3) := dk_181 0 93 (dk_at dksJ33_removeTreeNode_9 10 rfl rfl)
theorem dJ33_removeTreeNode_227 : decode cJ33_removeTreeNode 227 = .ok (.aload 15, 2) := dk_25 15 (dk_at dksJ33_removeTreeNode_9 13 rfl rfl)
theorem dJ33_removeTreeNode_229 : decode cJ33_removeTreeNode 229 = .ok (.getfield 42, 3) := dk_180 0 42 (dk_at dksJ33_removeTreeNode_9 15 rfl rfl)
theorem dJ33_removeTreeNode_232 : decode cJ33_removeTreeNode 232 = .ok (.astore 18, 2) := dk_58 18 (dk_at dksJ33_removeTreeNode_9 18 rfl rfl)
theorem dJ33_removeTreeNode_234 : decode cJ33_removeTreeNode 234 = .ok (.aload 11, 2) := dk_25 11 (dk_at dksJ33_removeTreeNode_9 20 rfl rfl)
theorem dJ33_removeTreeNode_236 : decode cJ33_removeTreeNode 236 = .ok (.getfield 9, 3) := dk_180 0 9 (dk_at dksJ33_removeTreeNode_10 0 rfl rfl)
theorem dJ33_removeTreeNode_239 : decode cJ33_removeTreeNode 239 = .ok (.astore 19, 2) := dk_58 19 (dk_at dksJ33_removeTreeNode_10 3 rfl rfl)
theorem dJ33_removeTreeNode_241 : decode cJ33_removeTreeNode 241 = .ok (.aload 15, 2) := dk_25 15 (dk_at dksJ33_removeTreeNode_10 5 rfl rfl)
theorem dJ33_removeTreeNode_243 : decode cJ33_removeTreeNode 243 = .ok (.aload 13, 2) := dk_25 13 (dk_at dksJ33_removeTreeNode_10 7 rfl rfl)
theorem dJ33_removeTreeNode_245 : decode cJ33_removeTreeNode 245 = .ok (.if_acmp .ne 20, 3) := dk_166 0 20 (dk_at dksJ33_removeTreeNode_10 9 rfl rfl)
theorem dJ33_removeTreeNode_248 : decode cJ33_removeTreeNode 248 = .ok (.aload 11, 2) := dk_25 11 (dk_at dksJ33_removeTreeNode_10 12 rfl rfl)
theorem dJ33_removeTreeNode_250 : decode cJ33_removeTreeNode 250 = .ok (.aload 15, 2) := dk_25 15 (dk_at dksJ33_removeTreeNode_10 14 rfl rfl)
theorem dJ33_removeTreeNode_252 : decode cJ33_removeTreeNode 252 = .ok (.putfield 9, 3) := dk_181 0 9 (dk_at dksJ33_removeTreeNode_10 16 rfl rfl)
theorem dJ33_removeTreeNode_255 : decode cJ33_removeTreeNode 255 = .ok (.aload 15, 2) := dk_25 15 (dk_at dksJ33_removeTreeNode_10 19 rfl rfl)
theorem dJ33_removeTreeNode_257 : decode cJ33_removeTreeNode 257 = .ok (.aload 11, 2) := dk_25 11 (dk_at dksJ33_removeTreeNode_10 21 rfl rfl)
theorem dJ33_removeTreeNode_259 : decode cJ33_removeTreeNode 259 = .ok (.putfield 42, 3) := dk_181 0 42 (dk_at dksJ33_removeTreeNode_11 0 rfl rfl)
theorem dJ33_removeTreeNode_262 : decode cJ33_removeTreeNode 262 = .ok (.goto 66, 3) := dk_167 0 66 (dk_at dksJ33_removeTreeNode_11 3 rfl rfl)
theorem dJ33_removeTreeNode_265 : decode cJ33_removeTreeNode 265 = .ok (.aload 15, 2) := dk_25 15 (dk_at dksJ33_removeTreeNode_11 6 rfl rfl)
theorem dJ33_removeTreeNode_267 : decode cJ33_removeTreeNode 267 = .ok (.getfield 9, 3) := dk_180 0 9 (dk_at dksJ33_removeTreeNode_11 8 rfl rfl)
theorem dJ33_removeTreeNode_270 : decode cJ33_removeTreeNode 270 = .ok (.astore 20, 2) := dk_58 20 (dk_at dksJ33_removeTreeNode_11 11 rfl rfl)
theorem dJ33_removeTreeNode_272 : decode cJ33_removeTreeNode 272 = .ok (.aload 11, 2) := dk_25 11 (dk_at dksJ33_removeTreeNode_11 13 rfl rfl)
theorem dJ33_removeTreeNode_274 : decode cJ33_removeTreeNode 274 = .ok (.aload 20, 2) := dk_25 20 (dk_at dksJ33_removeTreeNode_11 15 rfl rfl)
theorem dJ33_removeTreeNode_276 : decode cJ33_removeTreeNode 276 = .ok (.dup_x1, 1) := dk_90 (dk_at dksJ33_removeTreeNode_11 17 rfl rfl)
theorem dJ33_removeTreeNode_277 : decode cJ33_removeTreeNode 277 = .ok (.putfield 9, 3) := dk_181 0 9 (dk_at dksJ33_removeTreeNode_11 18 rfl rfl)
theorem dJ33_removeTreeNode_280 : decode cJ33_removeTreeNode 280 = .ok (.ifnull 30, 3) := dk_198 0 30 (dk_at dksJ33_removeTreeNode_11 21 rfl rfl)
theorem dJ33_removeTreeNode_283 : decode cJ33_removeTreeNode 283 = .ok (.aload 15, 2) := dk_25 15 (dk_at dksJ33_removeTreeNode_12 0 rfl rfl)
theorem dJ33_removeTreeNode_285 : decode cJ33_removeTreeNode 285 = .ok (.aload 20, 2) := dk_25 20 (dk_at dksJ33_removeTreeNode_12 2 rfl rfl)
theorem dJ33_removeTreeNode_287 : decode cJ33_removeTreeNode 287 = .ok (.getfield 39, 3) := dk_180 0 39 (dk_at dksJ33_removeTreeNode_12 4 rfl rfl)
theorem dJ33_removeTreeNode_290 : decode cJ33_removeTreeNode 290 = .ok (.if_acmp .ne 13, 3) := dk_166 0 13 (dk_at dksJ33_removeTreeNode_12 7 rfl rfl)
theorem dJ33_removeTreeNode_293 : decode cJ33_removeTreeNode 293 = .ok (.aload 20, 2) := dk_25 20 (dk_at dksJ33_removeTreeNode_12 10 rfl rfl)
theorem dJ33_removeTreeNode_295 : decode cJ33_removeTreeNode 295 = .ok (.aload 11, 2) := dk_25 11 (dk_at dksJ33_removeTreeNode_12 12 rfl rfl)
theorem dJ33_removeTreeNode_297 : decode cJ33_removeTreeNode 297 = .ok (.putfield 39, 3) := dk_181 0 39 (dk_at dksJ33_removeTreeNode_12 14 rfl rfl)
theorem dJ33_removeTreeNode_300 : decode cJ33_removeTreeNode 300 = .ok (.goto 10, 3) := dk_167 0 10 (dk_at dksJ33_removeTreeNode_12 17 rfl rfl)
theorem dJ33_removeTreeNode_303 : decode cJ33_removeTreeNode 303 = .ok (.aload 20, 2) := dk_25 20 (dk_at dksJ33_removeTreeNode_12 20 rfl rfl)
theorem dJ33_removeTreeNode_305 : decode cJ33_removeTreeNode 305 = .ok (.aload 11, 2) := dk_25 11 (dk_at dksJ33_removeTreeNode_12 22 rfl rfl)
theorem dJ33_removeTreeNode_307 : decode cJ33_removeTreeNode 307 = .ok (.putfield 42, 3) := dk_181 0 42 (dk_at dksJ33_removeTreeNode_13 0 rfl rfl)
theorem dJ33_removeTreeNode_310 : decode cJ33_removeTreeNode 310 = .ok (.aload 15, 2) := dk_25 15 (dk_at dksJ33_removeTreeNode_13 3 rfl rfl)
theorem dJ33_removeTreeNode_312 : decode cJ33_removeTreeNode 312 = .ok (.aload 13, 2) := dk_25 13 (dk_at dksJ33_removeTreeNode_13 5 rfl rfl)
theorem dJ33_removeTreeNode_314 : decode cJ33_removeTreeNode 314 = .ok (.dup_x1, 1) := dk_90 (dk_at dksJ33_removeTreeNode_13 7 rfl rfl)
theorem dJ33_removeTreeNode_315 : decode cJ33_removeTreeNode 315 = .ok (.putfield 42, 3) := dk_181 0 42 (dk_at dksJ33_removeTreeNode_13 8 rfl rfl)
theorem dJ33_removeTreeNode_318 : decode cJ33_removeTreeNode 318 = .ok (.ifnull 10, 3) := dk_198 0 10 (dk_at dksJ33_removeTreeNode_13 11 rfl rfl)
theorem dJ33_removeTreeNode_321 : decode cJ33_removeTreeNode 321 = .ok (.aload 13, 2) := dk_25 13 (dk_at dksJ33_removeTreeNode_13 14 rfl rfl)
theorem dJ33_removeTreeNode_323 : decode cJ33_removeTreeNode 323 = .ok (.aload 15, 2) := dk_25 15 (dk_at dksJ33_removeTreeNode_13 16 rfl rfl)
theorem dJ33_removeTreeNode_325 : decode cJ33_removeTreeNode 325 = .ok (.putfield 9, 3) := dk_181 0 9 (dk_at dksJ33_removeTreeNode_13 18 rfl rfl)
theorem dJ33_removeTreeNode_328 : decode cJ33_removeTreeNode 328 = .ok (.aload 11, 2) := dk_25 11 (dk_at dksJ33_removeTreeNode_13 21 rfl rfl)
theorem dJ33_removeTreeNode_330 : decode cJ33_removeTreeNode 330 = .ok (.aconst_null, 1) := dk_1 (dk_at dksJ33_removeTreeNode_13 23 rfl rfl)
theorem dJ33_removeTreeNode_331 : decode cJ33_removeTreeNode 331 = .ok (.putfield 39, 3) := dk_181 0 39 (dk_at dksJ33_removeTreeNode_14 0 rfl rfl)
theorem dJ33_removeTreeNode_334 : decode cJ33_removeTreeNode 334 = .ok (.aload 11, 2) := dk_25 11 (dk_at dksJ33_removeTreeNode_14 3 rfl rfl)
theorem dJ33_removeTreeNode_336 : decode cJ33_removeTreeNode 336 = .ok (.aload 18, 2) := dk_25 18 (dk_at dksJ33_removeTreeNode_14 5 rfl rfl)
theorem dJ33_removeTreeNode_338 : decode cJ33_removeTreeNode 338 = .ok (.dup_x1, 1) := dk_90 (dk_at dksJ33_removeTreeNode_14 7 rfl rfl)
theorem dJ33_removeTreeNode_339 : decode cJ33_removeTreeNode 339 = .ok (.putfield 42, 3) := dk_181 0 42 (dk_at dksJ33_removeTreeNode_14 8 rfl rfl)
theorem dJ33_removeTreeNode_342 : decode cJ33_removeTreeNode 342 = .ok (.ifnull 10, 3) := dk_198 0 10 (dk_at dksJ33_removeTreeNode_14 11 rfl rfl)
theorem dJ33_removeTreeNode_345 : decode cJ33_removeTreeNode 345 = .ok (.aload 18, 2) := dk_25 18 (dk_at dksJ33_removeTreeNode_14 14 rfl rfl)
theorem dJ33_removeTreeNode_347 : decode cJ33_removeTreeNode 347 = .ok (.aload 11, 2) := dk_25 11 (dk_at dksJ33_removeTreeNode_14 16 rfl rfl)
theorem dJ33_removeTreeNode_349 : decode cJ33_removeTreeNode 349 = .ok (.putfield 9, 3) := dk_181 0 9 (dk_at dksJ33_removeTreeNode_14 18 rfl rfl)
theorem dJ33_removeTreeNode_352 : decode cJ33_removeTreeNode 352 = .ok (.aload 15, 2) := dk_25 15 (dk_at dksJ33_removeTreeNode_14 21 rfl rfl)
theorem dJ33_removeTreeNode_354 : decode cJ33_removeTreeNode 354 = .ok (.aload 12, 2) := dk_25 12 (dk_at dksJ33_removeTreeNode_15 0 rfl rfl)
theorem dJ33_removeTreeNode_356 : decode cJ33_removeTreeNode 356 = .ok (.dup_x1, 1) := dk_90 (dk_at dksJ33_removeTreeNode_15 2 rfl rfl)
theorem dJ33_removeTreeNode_357 : decode cJ33_removeTreeNode 357 = .ok (.putfield 39, 3) := dk_181 0 39 (dk_at dksJ33_removeTreeNode_15 3 rfl rfl)
theorem dJ33_removeTreeNode_360 : decode cJ33_removeTreeNode 360 = .ok (.ifnull 10, 3) := dk_198 0 10 (dk_at dksJ33_removeTreeNode_15 6 rfl rfl)
theorem dJ33_removeTreeNode_363 : decode cJ33_removeTreeNode 363 = .ok (.aload 12, 2) := dk_25 12 (dk_at dksJ33_removeTreeNode_15 9 rfl rfl)
theorem dJ33_removeTreeNode_365 : decode cJ33_removeTreeNode 365 = .ok (.aload 15, 2) := dk_25 15 (dk_at dksJ33_removeTreeNode_15 11 rfl rfl)
theorem dJ33_removeTreeNode_367 : decode cJ33_removeTreeNode 367 = .ok (.putfield 9, 3) := dk_181 0 9 (dk_at dksJ33_removeTreeNode_15 13 rfl rfl)
theorem dJ33_removeTreeNode_370 : decode cJ33_removeTreeNode 370 = .ok (.aload 15, 2) := dk_25 15 (dk_at dksJ33_removeTreeNode_15 16 rfl rfl)
theorem dJ33_removeTreeNode_372 : decode cJ33_removeTreeNode 372 = .ok (.aload 19, 2) := dk_25 19 (dk_at dksJ33_removeTreeNode_15 18 rfl rfl)
theorem dJ33_removeTreeNode_374 : decode cJ33_removeTreeNode 374 = .ok (.dup_x1, 1) := dk_90 (dk_at dksJ33_removeTreeNode_15 20 rfl rfl)
theorem dJ33_removeTreeNode_375 : decode cJ33_removeTreeNode 375 = .ok (.putfield 9, 3) := dk_181 0 9 (dk_at dksJ33_removeTreeNode_15 21 rfl rfl)
theorem dJ33_removeTreeNode_378 : decode cJ33_removeTreeNode 378 = .ok (.ifnonnull 10, 3) := dk_199 0 10 (dk_at dksJ33_removeTreeNode_16 0 rfl rfl)
theorem dJ33_removeTreeNode_381 : decode cJ33_removeTreeNode 381 = .ok (.aload 15, 2) := dk_25 15 (dk_at dksJ33_removeTreeNode_16 3 rfl rfl)
theorem dJ33_removeTreeNode_383 : decode cJ33_removeTreeNode 383 = .ok (.astore 7, 2) := dk_58 7 (dk_at dksJ33_removeTreeNode_16 5 rfl rfl)
theorem dJ33_removeTreeNode_385 : decode cJ33_removeTreeNode 385 = .ok (.goto 30, 3) := dk_167 0 30 (dk_at dksJ33_removeTreeNode_16 7 rfl rfl)
theorem dJ33_removeTreeNode_388 : decode cJ33_removeTreeNode 388 = .ok (.aload 11, 2) := dk_25 11 (dk_at dksJ33_removeTreeNode_16 10 rfl rfl)
theorem dJ33_removeTreeNode_390 : decode cJ33_removeTreeNode 390 = .ok (.aload 19, 2) := dk_25 19 (dk_at dksJ33_removeTreeNode_16 12 rfl rfl)
theorem dJ33_removeTreeNode_392 : decode cJ33_removeTreeNode 392 = .ok (.getfield 39, 3) := dk_180 0 39 (dk_at dksJ33_removeTreeNode_16 14 rfl rfl)
theorem dJ33_removeTreeNode_395 : decode cJ33_removeTreeNode 395 = .ok (.if_acmp .ne 13, 3) := dk_166 0 13 (dk_at dksJ33_removeTreeNode_16 17 rfl rfl)
theorem dJ33_removeTreeNode_398 : decode cJ33_removeTreeNode 398 = .ok (.aload 19, 2) := dk_25 19 (dk_at dksJ33_removeTreeNode_16 20 rfl rfl)
theorem dJ33_removeTreeNode_400 : decode cJ33_removeTreeNode 400 = .ok (.aload 15, 2) := dk_25 15 (dk_at dksJ33_removeTreeNode_16 22 rfl rfl)
theorem dJ33_removeTreeNode_402 : decode cJ33_removeTreeNode 402 = .ok (.putfield 39, 3) := dk_181 0 39 (dk_at dksJ33_removeTreeNode_17 0 rfl rfl)
theorem dJ33_removeTreeNode_405 : decode cJ33_removeTreeNode 405 = .ok (.goto 10, 3) := dk_167 0 10 (dk_at dksJ33_removeTreeNode_17 3 rfl rfl)
theorem dJ33_removeTreeNode_408 : decode cJ33_removeTreeNode 408 = .ok (.aload 19, 2) := dk_25 19 (dk_at dksJ33_removeTreeNode_17 6 rfl rfl)
theorem dJ33_removeTreeNode_410 : decode cJ33_removeTreeNode 410 = .ok (.aload 15, 2) := dk_25 15 (dk_at dksJ33_removeTreeNode_17 8 rfl rfl)
theorem dJ33_removeTreeNode_412 : decode cJ33_removeTreeNode 412 = .ok (.putfield 42, 3) := dk_181 0 42 (dk_at dksJ33_removeTreeNode_17 10 rfl rfl)
theorem dJ33_removeTreeNode_415 : decode cJ33_removeTreeNode 415 = .ok (.aload 18, 2) := dk_25 18 (dk_at dksJ33_removeTreeNode_17 13 rfl rfl)
theorem dJ33_removeTreeNode_417 : decode cJ33_removeTreeNode 417 = .ok (.ifnull 10, 3) := dk_198 0 10 (dk_at dksJ33_removeTreeNode_17 15 rfl rfl)
theorem dJ33_removeTreeNode_420 : decode cJ33_removeTreeNode 420 = .ok (.aload 18, 2) := dk_25 18 (dk_at dksJ33_removeTreeNode_17 18 rfl rfl)
theorem dJ33_removeTreeNode_422 : decode cJ33_removeTreeNode 422 = .ok (.astore 14, 2) := dk_58 14 (dk_at dksJ33_removeTreeNode_17 20 rfl rfl)
theorem dJ33_removeTreeNode_424 : decode cJ33_removeTreeNode 424 = .ok (.goto 7, 3) := dk_167 0 7 (dk_at dksJ33_removeTreeNode_18 0 rfl rfl)
theorem dJ33_removeTreeNode_427 : decode cJ33_removeTreeNode 427 = .ok (.aload 11, 2) := dk_25 11 (dk_at dksJ33_removeTreeNode_18 3 rfl rfl)
theorem dJ33_removeTreeNode_429 : decode cJ33_removeTreeNode 429 = .ok (.astore 14, 2) := dk_58 14 (dk_at dksJ33_removeTreeNode_18 5 rfl rfl)
theorem dJ33_removeTreeNode_431 : decode cJ33_removeTreeNode 431 = .ok (.goto 31, 3) := dk_167 0 31 (dk_at dksJ33_removeTreeNode_18 7 rfl rfl)
theorem dJ33_removeTreeNode_434 : decode cJ33_removeTreeNode 434 = .ok (.aload 12, 2) := dk_25 12 (dk_at dksJ33_removeTreeNode_18 10 rfl rfl)
theorem dJ33_removeTreeNode_436 : decode cJ33_removeTreeNode 436 = .ok (.ifnull 10, 3) := dk_198 0 10 (dk_at dksJ33_removeTreeNode_18 12 rfl rfl)
theorem dJ33_removeTreeNode_439 : decode cJ33_removeTreeNode 439 = .ok (.aload 12, 2) := dk_25 12 (dk_at dksJ33_removeTreeNode_18 15 rfl rfl)
theorem dJ33_removeTreeNode_441 : decode cJ33_removeTreeNode 441 = .ok (.astore 14, 2) := dk_58 14 (dk_at dksJ33_removeTreeNode_18 17 rfl rfl)
theorem dJ33_removeTreeNode_443 : decode cJ33_removeTreeNode 443 = .ok (.goto 19, 3) := dk_167 0 19 (dk_at dksJ33_removeTreeNode_18 19 rfl rfl)
theorem dJ33_removeTreeNode_446 : decode cJ33_removeTreeNode 446 = .ok (.aload 13, 2) := dk_25 13 (dk_at dksJ33_removeTreeNode_18 22 rfl rfl)
theorem dJ33_removeTreeNode_448 : decode cJ33_removeTreeNode 448 = .ok (.ifnull 10, 3) := dk_198 0 10 (dk_at dksJ33_removeTreeNode_19 0 rfl rfl)
theorem dJ33_removeTreeNode_451 : decode cJ33_removeTreeNode 451 = .ok (.aload 13, 2) := dk_25 13 (dk_at dksJ33_removeTreeNode_19 3 rfl rfl)
theorem dJ33_removeTreeNode_453 : decode cJ33_removeTreeNode 453 = .ok (.astore 14, 2) := dk_58 14 (dk_at dksJ33_removeTreeNode_19 5 rfl rfl)
theorem dJ33_removeTreeNode_455 : decode cJ33_removeTreeNode 455 = .ok (.goto 7, 3) := dk_167 0 7 (dk_at dksJ33_removeTreeNode_19 7 rfl rfl)
theorem dJ33_removeTreeNode_458 : decode cJ33_removeTreeNode 458 = .ok (.aload 11, 2) := dk_25 11 (dk_at dksJ33_removeTreeNode_19 10 rfl rfl)
theorem dJ33_removeTreeNode_460 : decode cJ33_removeTreeNode 460 = .ok (.astore 14, 2) := dk_58 14 (dk_at dksJ33_removeTreeNode_19 12 rfl rfl)
theorem dJ33_removeTreeNode_462 : decode cJ33_removeTreeNode 462 = .ok (.aload 14, 2) := dk_25 14 (dk_at dksJ33_removeTreeNode_19 14 rfl rfl)
theorem dJ33_removeTreeNode_464 : decode cJ33_removeTreeNode 464 = .ok (.aload 11, 2) := dk_25 11 (dk_at dksJ33_removeTreeNode_19 16 rfl rfl)
theorem dJ33_removeTreeNode_466 : decode cJ33_removeTreeNode 466 = .ok (.if_acmp .eq 78, 3) := dk_165 0 78 (dk_at dksJ33_removeTreeNode_19 18 rfl rfl)
theorem dJ33_removeTreeNode_469 : decode cJ33_removeTreeNode 469 = .ok (.aload 14, 2) := dk_25 14 (dk_at dksJ33_removeTreeNode_19 21 rfl rfl)
theorem dJ33_removeTreeNode_471 : decode cJ33_removeTreeNode 471 = .ok (.aload 11, 2) := dk_25 11 (dk_at dksJ33_removeTreeNode_20 0 rfl rfl)
theorem dJ33_removeTreeNode_473 : decode cJ33_removeTreeNode 473 = .ok (.getfield 9, 3) := dk_180 0 9 (dk_at dksJ33_removeTreeNode_20 2 rfl rfl)
theorem dJ33_removeTreeNode_476 : decode cJ33_removeTreeNode 476 = .ok (.dup_x1, 1) := dk_90 (dk_at dksJ33_removeTreeNode_20 5 rfl rfl)
theorem dJ33_removeTreeNode_477 : decode cJ33_removeTreeNode 477 = .ok (.putfield 9, 3) := dk_181 0 9 (dk_at dksJ33_removeTreeNode_20 6 rfl rfl)
theorem dJ33_removeTreeNode_480 : decode cJ33_removeTreeNode 480 = .ok (.astore 15, 2) := dk_58 15 (dk_at dksJ33_removeTreeNode_20 9 rfl rfl)
theorem dJ33_removeTreeNode_482 : decode cJ33_removeTreeNode 482 = .ok (.aload 15, 2) := dk_25 15 (dk_at dksJ33_removeTreeNode_20 11 rfl rfl)
theorem dJ33_removeTreeNode_484 : decode cJ33_removeTreeNode 484 = .ok (.ifnonnull 15, 3) := dk_199 0 15 (dk_at dksJ33_removeTreeNode_20 13 rfl rfl)
theorem dJ33_removeTreeNode_487 : decode cJ33_removeTreeNode 487 = .ok (.aload 14, 2) := dk_25 14 (dk_at dksJ33_removeTreeNode_20 16 rfl rfl)
theorem dJ33_removeTreeNode_489 : decode cJ33_removeTreeNode 489 = .ok (.dup, 1) := dk_89 (dk_at dksJ33_removeTreeNode_20 18 rfl rfl)
theorem dJ33_removeTreeNode_490 : decode cJ33_removeTreeNode 490 = .ok (.astore 7, 2) := dk_58 7 (dk_at dksJ33_removeTreeNode_20 19 rfl rfl)
theorem dJ33_removeTreeNode_492 : decode cJ33_removeTreeNode 492 = .ok (.iconst 0, 1) := dk_3 (dk_at dksJ33_removeTreeNode_20 21 rfl rfl)
theorem dJ33_removeTreeNode_493 : decode cJ33_removeTreeNode 493 = .ok (.putfield 93, 3) := dk_181 0 93 (dk_at dksJ33_removeTreeNode_21 0 rfl rfl)
theorem dJ33_removeTreeNode_496 : decode cJ33_removeTreeNode 496 = .ok (.goto 30, 3) := dk_167 0 30 (dk_at dksJ33_removeTreeNode_21 3 rfl rfl)
theorem dJ33_removeTreeNode_499 : decode cJ33_removeTreeNode 499 = .ok (.aload 11, 2) := dk_25 11 (dk_at dksJ33_removeTreeNode_21 6 rfl rfl)
theorem dJ33_removeTreeNode_501 : decode cJ33_removeTreeNode 501 = .ok (.aload 15, 2) := dk_25 15 (dk_at dksJ33_removeTreeNode_21 8 rfl rfl)
theorem dJ33_removeTreeNode_503 : decode cJ33_removeTreeNode 503 = .ok (.getfield 39, 3) := dk_180 0 39 (dk_at dksJ33_removeTreeNode_21 10 rfl rfl)
theorem dJ33_removeTreeNode_506 : decode cJ33_removeTreeNode 506 = .ok (.if_acmp .ne 13, 3) := dk_166 0 13 (dk_at dksJ33_removeTreeNode_21 13 rfl rfl)
theorem dJ33_removeTreeNode_509 : decode cJ33_removeTreeNode 509 = .ok (.aload 15, 2) := dk_25 15 (dk_at dksJ33_removeTreeNode_21 16 rfl rfl)
theorem dJ33_removeTreeNode_511 : decode cJ33_removeTreeNode 511 = .ok (.aload 14, 2) := dk_25 14 (dk_at dksJ33_removeTreeNode_21 18 rfl rfl)
theorem dJ33_removeTreeNode_513 : decode cJ33_removeTreeNode 513 = .ok (.putfield 39, 3) := dk_181 0 39 (dk_at dksJ33_removeTreeNode_21 20 rfl rfl)
theorem dJ33_removeTreeNode_516 : decode cJ33_removeTreeNode 516 = .ok (.goto 10, 3) := dk_167 0 10 (dk_at dksJ33_removeTreeNode_22 0 rfl rfl)
theorem dJ33_removeTreeNode_519 : decode cJ33_removeTreeNode 519 = .ok (.aload 15, 2) := dk_25 15 (dk_at dksJ33_removeTreeNode_22 3 rfl rfl)
theorem dJ33_removeTreeNode_521 : decode cJ33_removeTreeNode 521 = .ok (.aload 14, 2) := dk_25 14 (dk_at dksJ33_removeTreeNode_22 5 rfl rfl)
theorem dJ33_removeTreeNode_523 : decode cJ33_removeTreeNode 523 = .ok (.putfield 42, 3) := dk_181 0 42 (dk_at dksJ33_removeTreeNode_22 7 rfl rfl)
theorem dJ33_removeTreeNode_526 : decode cJ33_removeTreeNode 526 = .ok (.aload 11, 2) := dk_25 11 (dk_at dksJ33_removeTreeNode_22 10 rfl rfl)
theorem dJ33_removeTreeNode_528 : decode cJ33_removeTreeNode 528 = .ok (.aload 11, 2) := dk_25 11 (dk_at dksJ33_removeTreeNode_22 12 rfl rfl)
theorem dJ33_removeTreeNode_530 : decode cJ33_removeTreeNode 530 = .ok (.aload 11, 2) := dk_25 11 (dk_at dksJ33_removeTreeNode_22 14 rfl rfl)
theorem dJ33_removeTreeNode_532 : decode cJ33_removeTreeNode 532 = .ok (.aconst_null, 1) := dk_1 (dk_at dksJ33_removeTreeNode_22 16 rfl rfl)
theorem dJ33_removeTreeNode_533 : decode cJ33_removeTreeNode 533 = .ok (.dup_x1, 1) := dk_90 (dk_at dksJ33_removeTreeNode_22 17 rfl rfl)
theorem dJ33_removeTreeNode_534 : decode cJ33_removeTreeNode 534 = .ok (.putfield 9, 3) := dk_181 0 9 (dk_at dksJ33_removeTreeNode_22 18 rfl rfl)
theorem dJ33_removeTreeNode_537 : decode cJ33_removeTreeNode 537 = .ok (.dup_x1, 1) := dk_90 (dk_at dksJ33_removeTreeNode_22 21 rfl rfl)
theorem dJ33_removeTreeNode_538 : decode cJ33_removeTreeNode 538 = .ok (.putfield 42, 3) := dk_181 0 42 (dk_at dksJ33_removeTreeNode_23 0 rfl rfl)
theorem dJ33_removeTreeNode_541 : decode cJ33_removeTreeNode 541 = .ok (.putfield 39, 3) := dk_181 0 39 (dk_at dksJ33_removeTreeNode_23 3 rfl rfl)
theorem dJ33_removeTreeNode_544 : decode cJ33_removeTreeNode 544 = .ok (.aload 11, 2) := dk_25 11 (dk_at dksJ33_removeTreeNode_23 6 rfl rfl)
theorem dJ33_removeTreeNode_546 : decode cJ33_removeTreeNode 546 = .ok (.getfield 93, 3) := dk_180 0 93 (dk_at dksJ33_removeTreeNode_23 8 rfl rfl)
theorem dJ33_removeTreeNode_549 : decode cJ33_removeTreeNode 549 = .ok (.ifCond .eq 8, 3) := dk_153 0 8 (dk_at dksJ33_removeTreeNode_23 11 rfl rfl)
theorem dJ33_removeTreeNode_552 : decode cJ33_removeTreeNode 552 = .ok (.aload 7, 2) := dk_25 7 (dk_at dksJ33_removeTreeNode_23 14 rfl rfl)
theorem dJ33_removeTreeNode_554 : decode cJ33_removeTreeNode 554 = .ok (.goto 10, 3) := dk_167 0 10 (dk_at dksJ33_removeTreeNode_23 16 rfl rfl)
theorem dJ33_removeTreeNode_557 : decode cJ33_removeTreeNode 557 = .ok (.aload 7, 2) := dk_25 7 (dk_at dksJ33_removeTreeNode_23 19 rfl rfl)
theorem dJ33_removeTreeNode_559 : decode cJ33_removeTreeNode 559 = .ok (.aload 14, 2) := dk_25 14 (dk_at dksJ33_removeTreeNode_23 21 rfl rfl)
theorem dJ33_removeTreeNode_561 : decode cJ33_removeTreeNode 561 = .ok (.invokestatic 123, 3) := dk_184 0 123 (dk_at dksJ33_removeTreeNode_24 0 rfl rfl)
theorem dJ33_removeTreeNode_564 : decode cJ33_removeTreeNode 564 = .ok (.astore 15, 2) := dk_58 15 (dk_at dksJ33_removeTreeNode_24 3 rfl rfl)
theorem dJ33_removeTreeNode_566 : decode cJ33_removeTreeNode 566 = .ok (.aload 14, 2) := dk_25 14 (dk_at dksJ33_removeTreeNode_24 5 rfl rfl)
theorem dJ33_removeTreeNode_568 : decode cJ33_removeTreeNode 568 = .ok (.aload 11, 2) := dk_25 11 (dk_at dksJ33_removeTreeNode_24 7 rfl rfl)
theorem dJ33_removeTreeNode_570 : decode cJ33_removeTreeNode 570 = .ok (.if_acmp .ne 56, 3) := dk_166 0 56 (dk_at dksJ33_removeTreeNode_24 9 rfl rfl)
theorem dJ33_removeTreeNode_573 : decode cJ33_removeTreeNode 573 = .ok (.aload 11, 2) := dk_25 11 (dk_at dksJ33_removeTreeNode_24 12 rfl rfl)
theorem dJ33_removeTreeNode_575 : decode cJ33_removeTreeNode 575 = .ok (.getfield 9, 3) := dk_180 0 9 (dk_at dksJ33_removeTreeNode_24 14 rfl rfl)
theorem dJ33_removeTreeNode_578 : decode cJ33_removeTreeNode 578 = .ok (.astore 16, 2) := dk_58 16 (dk_at dksJ33_removeTreeNode_24 17 rfl rfl)
theorem dJ33_removeTreeNode_580 : decode cJ33_removeTreeNode 580 = .ok (.aload 11, 2) := dk_25 11 (dk_at dksJ33_removeTreeNode_24 19 rfl rfl)
theorem dJ33_removeTreeNode_582 : decode cJ33_removeTreeNode 582 = .ok (.aconst_null, 1) := dk_1 (dk_at dksJ33_removeTreeNode_24 21 rfl rfl)
theorem dJ33_removeTreeNode_583 : decode cJ33_removeTreeNode 583 = .ok (.putfield 9, 3) := dk_181 0 9 (dk_at dksJ33_removeTreeNode_25 0 rfl rfl)
theorem dJ33_removeTreeNode_586 : decode cJ33_removeTreeNode 586 = .ok (.aload 16, 2) := dk_25 16 (dk_at dksJ33_removeTreeNode_25 3 rfl rfl)
theorem dJ33_removeTreeNode_588 : decode cJ33_removeTreeNode 588 = .ok (.ifnull 38, 3) := dk_198 0 38 (dk_at dksJ33_removeTreeNode_25 5 rfl rfl)
theorem dJ33_removeTreeNode_591 : decode cJ33_removeTreeNode 591 = .ok (.aload 11, 2) := dk_25 11 (dk_at dksJ33_removeTreeNode_25 8 rfl rfl)
theorem dJ33_removeTreeNode_593 : decode cJ33_removeTreeNode 593 = .ok (.aload 16, 2) := dk_25 16 (dk_at dksJ33_removeTreeNode_25 10 rfl rfl)
theorem dJ33_removeTreeNode_595 : decode cJ33_removeTreeNode 595 = .ok (.getfield 39, 3) := dk_180 0 39 (dk_at dksJ33_removeTreeNode_25 12 rfl rfl)
theorem dJ33_removeTreeNode_598 : decode cJ33_removeTreeNode 598 = .ok (.if_acmp .ne 12, 3) := dk_166 0 12 (dk_at dksJ33_removeTreeNode_25 15 rfl rfl)
theorem dJ33_removeTreeNode_601 : decode cJ33_removeTreeNode 601 = .ok (.aload 16, 2) := dk_25 16 (dk_at dksJ33_removeTreeNode_25 18 rfl rfl)
theorem dJ33_removeTreeNode_603 : decode cJ33_removeTreeNode 603 = .ok (.aconst_null, 1) := dk_1 (dk_at dksJ33_removeTreeNode_25 20 rfl rfl)
theorem dJ33_removeTreeNode_604 : decode cJ33_removeTreeNode 604 = .ok (.putfield 39, 3) := dk_181 0 39 (dk_at dksJ33_removeTreeNode_25 21 rfl rfl)
theorem dJ33_removeTreeNode_607 : decode cJ33_removeTreeNode 607 = .ok (.goto 19, 3) := dk_167 0 19 (dk_at dksJ33_removeTreeNode_26 0 rfl rfl)
theorem dJ33_removeTreeNode_610 : decode cJ33_removeTreeNode 610 = .ok (.aload 11, 2) := dk_25 11 (dk_at dksJ33_removeTreeNode_26 3 rfl rfl)
theorem dJ33_removeTreeNode_612 : decode cJ33_removeTreeNode 612 = .ok (.aload 16, 2) := dk_25 16 (dk_at dksJ33_removeTreeNode_26 5 rfl rfl)
theorem dJ33_removeTreeNode_614 : decode cJ33_removeTreeNode 614 = .ok (.getfield 42, 3) := dk_180 0 42 (dk_at dksJ33_removeTreeNode_26 7 rfl rfl)
theorem dJ33_removeTreeNode_617 : decode cJ33_removeTreeNode 617 = .ok (.if_acmp .ne 9, 3) := dk_166 0 9 (dk_at dksJ33_removeTreeNode_26 10 rfl rfl)
theorem dJ33_removeTreeNode_620 : decode cJ33_removeTreeNode 620 = .ok (.aload 16, 2) := dk_25 16 (dk_at dksJ33_removeTreeNode_26 13 rfl rfl)
theorem dJ33_removeTreeNode_622 : decode cJ33_removeTreeNode 622 = .ok (.aconst_null, 1) := dk_1 (dk_at dksJ33_removeTreeNode_26 15 rfl rfl)
theorem dJ33_removeTreeNode_623 : decode cJ33_removeTreeNode 623 = .ok (.putfield 42, 3) := dk_181 0 42 (dk_at dksJ33_removeTreeNode_26 16 rfl rfl)
theorem dJ33_removeTreeNode_626 : decode cJ33_removeTreeNode 626 = .ok (.iload_n 3, 1) := dk_29 (dk_at dksJ33_removeTreeNode_26 19 rfl rfl)
theorem dJ33_removeTreeNode_627 : decode cJ33_removeTreeNode 627 = .ok (.ifCond .eq 9, 3) := dk_153 0 9 (dk_at dksJ33_removeTreeNode_26 20 rfl rfl)
theorem dJ33_removeTreeNode_630 : decode cJ33_removeTreeNode 630 = .ok (.aload_n 2, 1) := dk_44 (dk_at dksJ33_removeTreeNode_26 23 rfl rfl)
theorem dJ33_removeTreeNode_631 : decode cJ33_removeTreeNode 631 = .ok (.aload 15, 2) := dk_25 15 (dk_at dksJ33_removeTreeNode_27 0 rfl rfl)
theorem dJ33_removeTreeNode_633 : decode cJ33_removeTreeNode 633 = .ok (.invokestatic 104, 3) := dk_184 0 104 (dk_at dksJ33_removeTreeNode_27 2 rfl rfl)
theorem dJ33_removeTreeNode_636 : decode cJ33_removeTreeNode 636 = .ok (.return_, 1) := dk_177 (dk_at dksJ33_removeTreeNode_27 5 rfl rfl)
abbrev cJ33_balanceDeletion : ByteArray := prog_46_method_15_code
def yJ33_balanceDeletion : MethodName := ⟨RJ33, "balanceDeletion", "(Ljava/util/HashMap$TreeNode;Ljava/util/HashMap$TreeNode;)Ljava/util/HashMap$TreeNode;"⟩
def dkwJ33_balanceDeletion_21 : List UInt8 := [167, 254, 23]
abbrev dktJ33_balanceDeletion_21 : List UInt8 := dkwJ33_balanceDeletion_21 ++ []
def dkwJ33_balanceDeletion_20 : List UInt8 := [25, 5, 3, 181, 0, 93, 44, 198, 0, 14, 44, 3, 181, 0, 93, 42, 44, 184, 0, 133, 75, 42, 76]
abbrev dktJ33_balanceDeletion_20 : List UInt8 := dkwJ33_balanceDeletion_20 ++ dktJ33_balanceDeletion_21
def dkwJ33_balanceDeletion_19 : List UInt8 := [199, 0, 7, 3, 167, 0, 7, 44, 180, 0, 93, 181, 0, 93, 45, 180, 0, 39, 89, 58, 5, 198, 0, 9]
abbrev dktJ33_balanceDeletion_19 : List UInt8 := dkwJ33_balanceDeletion_19 ++ dktJ33_balanceDeletion_20
def dkwJ33_balanceDeletion_18 : List UInt8 := [180, 0, 9, 89, 77, 199, 0, 7, 1, 167, 0, 7, 44, 180, 0, 39, 78, 45, 198, 0, 35, 45, 44]
abbrev dktJ33_balanceDeletion_18 : List UInt8 := dkwJ33_balanceDeletion_18 ++ dktJ33_balanceDeletion_19
def dkwJ33_balanceDeletion_17 : List UInt8 := [25, 6, 198, 0, 9, 25, 6, 3, 181, 0, 93, 45, 4, 181, 0, 93, 42, 45, 184, 0, 130, 75, 43]
abbrev dktJ33_balanceDeletion_17 : List UInt8 := dkwJ33_balanceDeletion_17 ++ dktJ33_balanceDeletion_18
def dkwJ33_balanceDeletion_16 : List UInt8 := [45, 4, 181, 0, 93, 44, 76, 167, 0, 109, 25, 5, 198, 0, 11, 25, 5, 180, 0, 93, 154, 0, 43]
abbrev dktJ33_balanceDeletion_16 : List UInt8 := dkwJ33_balanceDeletion_16 ++ dktJ33_balanceDeletion_17
def dkwJ33_balanceDeletion_15 : List UInt8 := [198, 0, 11, 25, 5, 180, 0, 93, 154, 0, 26, 25, 6, 198, 0, 11, 25, 6, 180, 0, 93, 154, 0, 13]
abbrev dktJ33_balanceDeletion_15 : List UInt8 := dkwJ33_balanceDeletion_15 ++ dktJ33_balanceDeletion_16
def dkwJ33_balanceDeletion_14 : List UInt8 := [199, 0, 8, 44, 76, 167, 254, 180, 45, 180, 0, 39, 58, 5, 45, 180, 0, 42, 58, 6, 25, 5]
abbrev dktJ33_balanceDeletion_14 : List UInt8 := dkwJ33_balanceDeletion_14 ++ dktJ33_balanceDeletion_15
def dkwJ33_balanceDeletion_13 : List UInt8 := [184, 0, 133, 75, 43, 180, 0, 9, 89, 77, 199, 0, 7, 1, 167, 0, 7, 44, 180, 0, 39, 78, 45]
abbrev dktJ33_balanceDeletion_13 : List UInt8 := dkwJ33_balanceDeletion_13 ++ dktJ33_balanceDeletion_14
def dkwJ33_balanceDeletion_12 : List UInt8 := [45, 198, 0, 44, 45, 180, 0, 93, 153, 0, 37, 45, 3, 181, 0, 93, 44, 4, 181, 0, 93, 42, 44]
abbrev dktJ33_balanceDeletion_12 : List UInt8 := dkwJ33_balanceDeletion_12 ++ dktJ33_balanceDeletion_13
def dkwJ33_balanceDeletion_11 : List UInt8 := [3, 181, 0, 93, 44, 198, 0, 14, 44, 3, 181, 0, 93, 42, 44, 184, 0, 130, 75, 42, 76, 167, 254, 234]
abbrev dktJ33_balanceDeletion_11 : List UInt8 := dkwJ33_balanceDeletion_11 ++ dktJ33_balanceDeletion_12
def dkwJ33_balanceDeletion_10 : List UInt8 := [3, 167, 0, 7, 44, 180, 0, 93, 181, 0, 93, 25, 4, 180, 0, 42, 89, 58, 6, 198, 0, 9, 25, 6]
abbrev dktJ33_balanceDeletion_10 : List UInt8 := dkwJ33_balanceDeletion_10 ++ dktJ33_balanceDeletion_11
def dkwJ33_balanceDeletion_9 : List UInt8 := [199, 0, 7, 1, 167, 0, 7, 44, 180, 0, 42, 58, 4, 25, 4, 198, 0, 37, 25, 4, 44, 199, 0, 7]
abbrev dktJ33_balanceDeletion_9 : List UInt8 := dkwJ33_balanceDeletion_9 ++ dktJ33_balanceDeletion_10
def dkwJ33_balanceDeletion_8 : List UInt8 := [181, 0, 93, 25, 4, 4, 181, 0, 93, 42, 25, 4, 184, 0, 133, 75, 43, 180, 0, 9, 89, 77]
abbrev dktJ33_balanceDeletion_8 : List UInt8 := dkwJ33_balanceDeletion_8 ++ dktJ33_balanceDeletion_9
def dkwJ33_balanceDeletion_7 : List UInt8 := [167, 0, 115, 25, 6, 198, 0, 11, 25, 6, 180, 0, 93, 154, 0, 46, 25, 5, 198, 0, 9, 25, 5, 3]
abbrev dktJ33_balanceDeletion_7 : List UInt8 := dkwJ33_balanceDeletion_7 ++ dktJ33_balanceDeletion_8
def dkwJ33_balanceDeletion_6 : List UInt8 := [154, 0, 27, 25, 5, 198, 0, 11, 25, 5, 180, 0, 93, 154, 0, 14, 25, 4, 4, 181, 0, 93, 44, 76]
abbrev dktJ33_balanceDeletion_6 : List UInt8 := dkwJ33_balanceDeletion_6 ++ dktJ33_balanceDeletion_7
def dkwJ33_balanceDeletion_5 : List UInt8 := [25, 4, 180, 0, 39, 58, 5, 25, 4, 180, 0, 42, 58, 6, 25, 6, 198, 0, 11, 25, 6, 180, 0, 93]
abbrev dktJ33_balanceDeletion_5 : List UInt8 := dkwJ33_balanceDeletion_5 ++ dktJ33_balanceDeletion_6
def dkwJ33_balanceDeletion_4 : List UInt8 := [199, 0, 7, 1, 167, 0, 7, 44, 180, 0, 42, 58, 4, 25, 4, 199, 0, 8, 44, 76, 167, 255, 144]
abbrev dktJ33_balanceDeletion_4 : List UInt8 := dkwJ33_balanceDeletion_4 ++ dktJ33_balanceDeletion_5
def dkwJ33_balanceDeletion_3 : List UInt8 := [25, 4, 3, 181, 0, 93, 44, 4, 181, 0, 93, 42, 44, 184, 0, 130, 75, 43, 180, 0, 9, 89, 77]
abbrev dktJ33_balanceDeletion_3 : List UInt8 := dkwJ33_balanceDeletion_3 ++ dktJ33_balanceDeletion_4
def dkwJ33_balanceDeletion_2 : List UInt8 := [78, 43, 166, 0, 233, 44, 180, 0, 42, 89, 58, 4, 198, 0, 47, 25, 4, 180, 0, 93, 153, 0, 39]
abbrev dktJ33_balanceDeletion_2 : List UInt8 := dkwJ33_balanceDeletion_2 ++ dktJ33_balanceDeletion_3
def dkwJ33_balanceDeletion_1 : List UInt8 := [181, 0, 93, 43, 176, 43, 180, 0, 93, 153, 0, 10, 43, 3, 181, 0, 93, 42, 176, 44, 180, 0, 39, 89]
abbrev dktJ33_balanceDeletion_1 : List UInt8 := dkwJ33_balanceDeletion_1 ++ dktJ33_balanceDeletion_2
def dkwJ33_balanceDeletion_0 : List UInt8 := [43, 198, 0, 8, 43, 42, 166, 0, 5, 42, 176, 43, 180, 0, 9, 89, 77, 199, 0, 10, 43, 3]
abbrev dktJ33_balanceDeletion_0 : List UInt8 := dkwJ33_balanceDeletion_0 ++ dktJ33_balanceDeletion_1
theorem dksJ33_balanceDeletion_0 : cJ33_balanceDeletion.data.toList.drop 0 = dktJ33_balanceDeletion_0 := by decide +kernel
theorem dksJ33_balanceDeletion_1 : cJ33_balanceDeletion.data.toList.drop 22 = dktJ33_balanceDeletion_1 := dk_seg dksJ33_balanceDeletion_0 22 rfl rfl
theorem dksJ33_balanceDeletion_2 : cJ33_balanceDeletion.data.toList.drop 46 = dktJ33_balanceDeletion_2 := dk_seg dksJ33_balanceDeletion_1 24 rfl rfl
theorem dksJ33_balanceDeletion_3 : cJ33_balanceDeletion.data.toList.drop 69 = dktJ33_balanceDeletion_3 := dk_seg dksJ33_balanceDeletion_2 23 rfl rfl
theorem dksJ33_balanceDeletion_4 : cJ33_balanceDeletion.data.toList.drop 92 = dktJ33_balanceDeletion_4 := dk_seg dksJ33_balanceDeletion_3 23 rfl rfl
theorem dksJ33_balanceDeletion_5 : cJ33_balanceDeletion.data.toList.drop 115 = dktJ33_balanceDeletion_5 := dk_seg dksJ33_balanceDeletion_4 23 rfl rfl
theorem dksJ33_balanceDeletion_6 : cJ33_balanceDeletion.data.toList.drop 139 = dktJ33_balanceDeletion_6 := dk_seg dksJ33_balanceDeletion_5 24 rfl rfl
theorem dksJ33_balanceDeletion_7 : cJ33_balanceDeletion.data.toList.drop 163 = dktJ33_balanceDeletion_7 := dk_seg dksJ33_balanceDeletion_6 24 rfl rfl
theorem dksJ33_balanceDeletion_8 : cJ33_balanceDeletion.data.toList.drop 187 = dktJ33_balanceDeletion_8 := dk_seg dksJ33_balanceDeletion_7 24 rfl rfl
theorem dksJ33_balanceDeletion_9 : cJ33_balanceDeletion.data.toList.drop 209 = dktJ33_balanceDeletion_9 := dk_seg dksJ33_balanceDeletion_8 22 rfl rfl
theorem dksJ33_balanceDeletion_10 : cJ33_balanceDeletion.data.toList.drop 233 = dktJ33_balanceDeletion_10 := dk_seg dksJ33_balanceDeletion_9 24 rfl rfl
theorem dksJ33_balanceDeletion_11 : cJ33_balanceDeletion.data.toList.drop 257 = dktJ33_balanceDeletion_11 := dk_seg dksJ33_balanceDeletion_10 24 rfl rfl
theorem dksJ33_balanceDeletion_12 : cJ33_balanceDeletion.data.toList.drop 281 = dktJ33_balanceDeletion_12 := dk_seg dksJ33_balanceDeletion_11 24 rfl rfl
theorem dksJ33_balanceDeletion_13 : cJ33_balanceDeletion.data.toList.drop 304 = dktJ33_balanceDeletion_13 := dk_seg dksJ33_balanceDeletion_12 23 rfl rfl
theorem dksJ33_balanceDeletion_14 : cJ33_balanceDeletion.data.toList.drop 327 = dktJ33_balanceDeletion_14 := dk_seg dksJ33_balanceDeletion_13 23 rfl rfl
theorem dksJ33_balanceDeletion_15 : cJ33_balanceDeletion.data.toList.drop 349 = dktJ33_balanceDeletion_15 := dk_seg dksJ33_balanceDeletion_14 22 rfl rfl
theorem dksJ33_balanceDeletion_16 : cJ33_balanceDeletion.data.toList.drop 373 = dktJ33_balanceDeletion_16 := dk_seg dksJ33_balanceDeletion_15 24 rfl rfl
theorem dksJ33_balanceDeletion_17 : cJ33_balanceDeletion.data.toList.drop 396 = dktJ33_balanceDeletion_17 := dk_seg dksJ33_balanceDeletion_16 23 rfl rfl
theorem dksJ33_balanceDeletion_18 : cJ33_balanceDeletion.data.toList.drop 419 = dktJ33_balanceDeletion_18 := dk_seg dksJ33_balanceDeletion_17 23 rfl rfl
theorem dksJ33_balanceDeletion_19 : cJ33_balanceDeletion.data.toList.drop 442 = dktJ33_balanceDeletion_19 := dk_seg dksJ33_balanceDeletion_18 23 rfl rfl
theorem dksJ33_balanceDeletion_20 : cJ33_balanceDeletion.data.toList.drop 466 = dktJ33_balanceDeletion_20 := dk_seg dksJ33_balanceDeletion_19 24 rfl rfl
theorem dksJ33_balanceDeletion_21 : cJ33_balanceDeletion.data.toList.drop 489 = dktJ33_balanceDeletion_21 := dk_seg dksJ33_balanceDeletion_20 23 rfl rfl
theorem dJ33_balanceDeletion_0 : decode cJ33_balanceDeletion 0 = .ok (.aload_n 1, 1) := dk_43 (dk_at dksJ33_balanceDeletion_0 0 rfl rfl)
theorem dJ33_balanceDeletion_1 : decode cJ33_balanceDeletion 1 = .ok (.ifnull 8, 3) := dk_198 0 8 (dk_at dksJ33_balanceDeletion_0 1 rfl rfl)
theorem dJ33_balanceDeletion_4 : decode cJ33_balanceDeletion 4 = .ok (.aload_n 1, 1) := dk_43 (dk_at dksJ33_balanceDeletion_0 4 rfl rfl)
theorem dJ33_balanceDeletion_5 : decode cJ33_balanceDeletion 5 = .ok (.aload_n 0, 1) := dk_42 (dk_at dksJ33_balanceDeletion_0 5 rfl rfl)
theorem dJ33_balanceDeletion_6 : decode cJ33_balanceDeletion 6 = .ok (.if_acmp .ne 5, 3) := dk_166 0 5 (dk_at dksJ33_balanceDeletion_0 6 rfl rfl)
theorem dJ33_balanceDeletion_9 : decode cJ33_balanceDeletion 9 = .ok (.aload_n 0, 1) := dk_42 (dk_at dksJ33_balanceDeletion_0 9 rfl rfl)
theorem dJ33_balanceDeletion_10 : decode cJ33_balanceDeletion 10 = .ok (.areturn, 1) := dk_176 (dk_at dksJ33_balanceDeletion_0 10 rfl rfl)
theorem dJ33_balanceDeletion_11 : decode cJ33_balanceDeletion 11 = .ok (.aload_n 1, 1) := dk_43 (dk_at dksJ33_balanceDeletion_0 11 rfl rfl)
theorem dJ33_balanceDeletion_12 : decode cJ33_balanceDeletion 12 = .ok (.getfield 9, 3) := dk_180 0 9 (dk_at dksJ33_balanceDeletion_0 12 rfl rfl)
theorem dJ33_balanceDeletion_15 : decode cJ33_balanceDeletion 15 = .ok (.dup, 1) := dk_89 (dk_at dksJ33_balanceDeletion_0 15 rfl rfl)
theorem dJ33_balanceDeletion_16 : decode cJ33_balanceDeletion 16 = .ok (.astore_n 2, 1) := dk_77 (dk_at dksJ33_balanceDeletion_0 16 rfl rfl)
theorem dJ33_balanceDeletion_17 : decode cJ33_balanceDeletion 17 = .ok (.ifnonnull 10, 3) := dk_199 0 10 (dk_at dksJ33_balanceDeletion_0 17 rfl rfl)
theorem dJ33_balanceDeletion_20 : decode cJ33_balanceDeletion 20 = .ok (.aload_n 1, 1) := dk_43 (dk_at dksJ33_balanceDeletion_0 20 rfl rfl)
theorem dJ33_balanceDeletion_21 : decode cJ33_balanceDeletion 21 = .ok (.iconst 0, 1) := dk_3 (dk_at dksJ33_balanceDeletion_0 21 rfl rfl)
theorem dJ33_balanceDeletion_22 : decode cJ33_balanceDeletion 22 = .ok (.putfield 93, 3) := dk_181 0 93 (dk_at dksJ33_balanceDeletion_1 0 rfl rfl)
theorem dJ33_balanceDeletion_25 : decode cJ33_balanceDeletion 25 = .ok (.aload_n 1, 1) := dk_43 (dk_at dksJ33_balanceDeletion_1 3 rfl rfl)
theorem dJ33_balanceDeletion_26 : decode cJ33_balanceDeletion 26 = .ok (.areturn, 1) := dk_176 (dk_at dksJ33_balanceDeletion_1 4 rfl rfl)
theorem dJ33_balanceDeletion_27 : decode cJ33_balanceDeletion 27 = .ok (.aload_n 1, 1) := dk_43 (dk_at dksJ33_balanceDeletion_1 5 rfl rfl)
theorem dJ33_balanceDeletion_28 : decode cJ33_balanceDeletion 28 = .ok (.getfield 93, 3) := dk_180 0 93 (dk_at dksJ33_balanceDeletion_1 6 rfl rfl)
theorem dJ33_balanceDeletion_31 : decode cJ33_balanceDeletion 31 = .ok (.ifCond .eq 10, 3) := dk_153 0 10 (dk_at dksJ33_balanceDeletion_1 9 rfl rfl)
theorem dJ33_balanceDeletion_34 : decode cJ33_balanceDeletion 34 = .ok (.aload_n 1, 1) := dk_43 (dk_at dksJ33_balanceDeletion_1 12 rfl rfl)
theorem dJ33_balanceDeletion_35 : decode cJ33_balanceDeletion 35 = .ok (.iconst 0, 1) := dk_3 (dk_at dksJ33_balanceDeletion_1 13 rfl rfl)
theorem dJ33_balanceDeletion_36 : decode cJ33_balanceDeletion 36 = .ok (.putfield 93, 3) := dk_181 0 93 (dk_at dksJ33_balanceDeletion_1 14 rfl rfl)
theorem dJ33_balanceDeletion_39 : decode cJ33_balanceDeletion 39 = .ok (.aload_n 0, 1) := dk_42 (dk_at dksJ33_balanceDeletion_1 17 rfl rfl)
theorem dJ33_balanceDeletion_40 : decode cJ33_balanceDeletion 40 = .ok (.areturn, 1) := dk_176 (dk_at dksJ33_balanceDeletion_1 18 rfl rfl)
theorem dJ33_balanceDeletion_41 : decode cJ33_balanceDeletion 41 = .ok (.aload_n 2, 1) := dk_44 (dk_at dksJ33_balanceDeletion_1 19 rfl rfl)
theorem dJ33_balanceDeletion_42 : decode cJ33_balanceDeletion 42 = .ok (.getfield 39, 3) := dk_180 0 39 (dk_at dksJ33_balanceDeletion_1 20 rfl rfl)
theorem dJ33_balanceDeletion_45 : decode cJ33_balanceDeletion 45 = .ok (.dup, 1) := dk_89 (dk_at dksJ33_balanceDeletion_1 23 rfl rfl)
theorem dJ33_balanceDeletion_46 : decode cJ33_balanceDeletion 46 = .ok (.astore_n 3, 1) := dk_78 (dk_at dksJ33_balanceDeletion_2 0 rfl rfl)
theorem dJ33_balanceDeletion_47 : decode cJ33_balanceDeletion 47 = .ok (.aload_n 1, 1) := dk_43 (dk_at dksJ33_balanceDeletion_2 1 rfl rfl)
theorem dJ33_balanceDeletion_48 : decode cJ33_balanceDeletion 48 = .ok (.if_acmp .ne 233, 3) := dk_166 0 233 (dk_at dksJ33_balanceDeletion_2 2 rfl rfl)
theorem dJ33_balanceDeletion_51 : decode cJ33_balanceDeletion 51 = .ok (.aload_n 2, 1) := dk_44 (dk_at dksJ33_balanceDeletion_2 5 rfl rfl)
theorem dJ33_balanceDeletion_52 : decode cJ33_balanceDeletion 52 = .ok (.getfield 42, 3) := dk_180 0 42 (dk_at dksJ33_balanceDeletion_2 6 rfl rfl)
theorem dJ33_balanceDeletion_55 : decode cJ33_balanceDeletion 55 = .ok (.dup, 1) := dk_89 (dk_at dksJ33_balanceDeletion_2 9 rfl rfl)
theorem dJ33_balanceDeletion_56 : decode cJ33_balanceDeletion 56 = .ok (.astore 4, 2) := dk_58 4 (dk_at dksJ33_balanceDeletion_2 10 rfl rfl)
theorem dJ33_balanceDeletion_58 : decode cJ33_balanceDeletion 58 = .ok (.ifnull 47, 3) := dk_198 0 47 (dk_at dksJ33_balanceDeletion_2 12 rfl rfl)
theorem dJ33_balanceDeletion_61 : decode cJ33_balanceDeletion 61 = .ok (.aload 4, 2) := dk_25 4 (dk_at dksJ33_balanceDeletion_2 15 rfl rfl)
theorem dJ33_balanceDeletion_63 : decode cJ33_balanceDeletion 63 = .ok (.getfield 93, 3) := dk_180 0 93 (dk_at dksJ33_balanceDeletion_2 17 rfl rfl)
theorem dJ33_balanceDeletion_66 : decode cJ33_balanceDeletion 66 = .ok (.ifCond .eq 39, 3) := dk_153 0 39 (dk_at dksJ33_balanceDeletion_2 20 rfl rfl)
theorem dJ33_balanceDeletion_69 : decode cJ33_balanceDeletion 69 = .ok (.aload 4, 2) := dk_25 4 (dk_at dksJ33_balanceDeletion_3 0 rfl rfl)
theorem dJ33_balanceDeletion_71 : decode cJ33_balanceDeletion 71 = .ok (.iconst 0, 1) := dk_3 (dk_at dksJ33_balanceDeletion_3 2 rfl rfl)
theorem dJ33_balanceDeletion_72 : decode cJ33_balanceDeletion 72 = .ok (.putfield 93, 3) := dk_181 0 93 (dk_at dksJ33_balanceDeletion_3 3 rfl rfl)
theorem dJ33_balanceDeletion_75 : decode cJ33_balanceDeletion 75 = .ok (.aload_n 2, 1) := dk_44 (dk_at dksJ33_balanceDeletion_3 6 rfl rfl)
theorem dJ33_balanceDeletion_76 : decode cJ33_balanceDeletion 76 = .ok (.iconst 1, 1) := dk_4 (dk_at dksJ33_balanceDeletion_3 7 rfl rfl)
theorem dJ33_balanceDeletion_77 : decode cJ33_balanceDeletion 77 = .ok (.putfield 93, 3) := dk_181 0 93 (dk_at dksJ33_balanceDeletion_3 8 rfl rfl)
theorem dJ33_balanceDeletion_80 : decode cJ33_balanceDeletion 80 = .ok (.aload_n 0, 1) := dk_42 (dk_at dksJ33_balanceDeletion_3 11 rfl rfl)
theorem dJ33_balanceDeletion_81 : decode cJ33_balanceDeletion 81 = .ok (.aload_n 2, 1) := dk_44 (dk_at dksJ33_balanceDeletion_3 12 rfl rfl)
theorem dJ33_balanceDeletion_82 : decode cJ33_balanceDeletion 82 = .ok (.invokestatic 130, 3) := dk_184 0 130 (dk_at dksJ33_balanceDeletion_3 13 rfl rfl)
theorem dJ33_balanceDeletion_85 : decode cJ33_balanceDeletion 85 = .ok (.astore_n 0, 1) := dk_75 (dk_at dksJ33_balanceDeletion_3 16 rfl rfl)
theorem dJ33_balanceDeletion_86 : decode cJ33_balanceDeletion 86 = .ok (.aload_n 1, 1) := dk_43 (dk_at dksJ33_balanceDeletion_3 17 rfl rfl)
theorem dJ33_balanceDeletion_87 : decode cJ33_balanceDeletion 87 = .ok (.getfield 9, 3) := dk_180 0 9 (dk_at dksJ33_balanceDeletion_3 18 rfl rfl)
theorem dJ33_balanceDeletion_90 : decode cJ33_balanceDeletion 90 = .ok (.dup, 1) := dk_89 (dk_at dksJ33_balanceDeletion_3 21 rfl rfl)
theorem dJ33_balanceDeletion_91 : decode cJ33_balanceDeletion 91 = .ok (.astore_n 2, 1) := dk_77 (dk_at dksJ33_balanceDeletion_3 22 rfl rfl)
theorem dJ33_balanceDeletion_92 : decode cJ33_balanceDeletion 92 = .ok (.ifnonnull 7, 3) := dk_199 0 7 (dk_at dksJ33_balanceDeletion_4 0 rfl rfl)
theorem dJ33_balanceDeletion_95 : decode cJ33_balanceDeletion 95 = .ok (.aconst_null, 1) := dk_1 (dk_at dksJ33_balanceDeletion_4 3 rfl rfl)
theorem dJ33_balanceDeletion_96 : decode cJ33_balanceDeletion 96 = .ok (.goto 7, 3) := dk_167 0 7 (dk_at dksJ33_balanceDeletion_4 4 rfl rfl)
theorem dJ33_balanceDeletion_99 : decode cJ33_balanceDeletion 99 = .ok (.aload_n 2, 1) := dk_44 (dk_at dksJ33_balanceDeletion_4 7 rfl rfl)
theorem dJ33_balanceDeletion_100 : decode cJ33_balanceDeletion 100 = .ok (.getfield 42, 3) := dk_180 0 42 (dk_at dksJ33_balanceDeletion_4 8 rfl rfl)
theorem dJ33_balanceDeletion_103 : decode cJ33_balanceDeletion 103 = .ok (.astore 4, 2) := dk_58 4 (dk_at dksJ33_balanceDeletion_4 11 rfl rfl)
theorem dJ33_balanceDeletion_105 : decode cJ33_balanceDeletion 105 = .ok (.aload 4, 2) := dk_25 4 (dk_at dksJ33_balanceDeletion_4 13 rfl rfl)
theorem dJ33_balanceDeletion_107 : decode cJ33_balanceDeletion 107 = .ok (.ifnonnull 8, 3) := dk_199 0 8 (dk_at dksJ33_balanceDeletion_4 15 rfl rfl)
theorem dJ33_balanceDeletion_110 : decode cJ33_balanceDeletion 110 = .ok (.aload_n 2, 1) := dk_44 (dk_at dksJ33_balanceDeletion_4 18 rfl rfl)
theorem dJ33_balanceDeletion_111 : decode cJ33_balanceDeletion 111 = .ok (.astore_n 1, 1) := dk_76 (dk_at dksJ33_balanceDeletion_4 19 rfl rfl)
theorem dJ33_balanceDeletion_112 : decode cJ33_balanceDeletion 112 = .ok (.goto (-112), 3) := dk_167 255 144 (dk_at dksJ33_balanceDeletion_4 20 rfl rfl)
theorem dJ33_balanceDeletion_115 : decode cJ33_balanceDeletion 115 = .ok (.aload 4, 2) := dk_25 4 (dk_at dksJ33_balanceDeletion_5 0 rfl rfl)
theorem dJ33_balanceDeletion_117 : decode cJ33_balanceDeletion 117 = .ok (.getfield 39, 3) := dk_180 0 39 (dk_at dksJ33_balanceDeletion_5 2 rfl rfl)
theorem dJ33_balanceDeletion_120 : decode cJ33_balanceDeletion 120 = .ok (.astore 5, 2) := dk_58 5 (dk_at dksJ33_balanceDeletion_5 5 rfl rfl)
theorem dJ33_balanceDeletion_122 : decode cJ33_balanceDeletion 122 = .ok (.aload 4, 2) := dk_25 4 (dk_at dksJ33_balanceDeletion_5 7 rfl rfl)
theorem dJ33_balanceDeletion_124 : decode cJ33_balanceDeletion 124 = .ok (.getfield 42, 3) := dk_180 0 42 (dk_at dksJ33_balanceDeletion_5 9 rfl rfl)
theorem dJ33_balanceDeletion_127 : decode cJ33_balanceDeletion 127 = .ok (.astore 6, 2) := dk_58 6 (dk_at dksJ33_balanceDeletion_5 12 rfl rfl)
theorem dJ33_balanceDeletion_129 : decode cJ33_balanceDeletion 129 = .ok (.aload 6, 2) := dk_25 6 (dk_at dksJ33_balanceDeletion_5 14 rfl rfl)
theorem dJ33_balanceDeletion_131 : decode cJ33_balanceDeletion 131 = .ok (.ifnull 11, 3) := dk_198 0 11 (dk_at dksJ33_balanceDeletion_5 16 rfl rfl)
theorem dJ33_balanceDeletion_134 : decode cJ33_balanceDeletion 134 = .ok (.aload 6, 2) := dk_25 6 (dk_at dksJ33_balanceDeletion_5 19 rfl rfl)
theorem dJ33_balanceDeletion_136 : decode cJ33_balanceDeletion 136 = .ok (.getfield 93, 3) := dk_180 0 93 (dk_at dksJ33_balanceDeletion_5 21 rfl rfl)
theorem dJ33_balanceDeletion_139 : decode cJ33_balanceDeletion 139 = .ok (.ifCond .ne 27, 3) := dk_154 0 27 (dk_at dksJ33_balanceDeletion_6 0 rfl rfl)
theorem dJ33_balanceDeletion_142 : decode cJ33_balanceDeletion 142 = .ok (.aload 5, 2) := dk_25 5 (dk_at dksJ33_balanceDeletion_6 3 rfl rfl)
theorem dJ33_balanceDeletion_144 : decode cJ33_balanceDeletion 144 = .ok (.ifnull 11, 3) := dk_198 0 11 (dk_at dksJ33_balanceDeletion_6 5 rfl rfl)
theorem dJ33_balanceDeletion_147 : decode cJ33_balanceDeletion 147 = .ok (.aload 5, 2) := dk_25 5 (dk_at dksJ33_balanceDeletion_6 8 rfl rfl)
theorem dJ33_balanceDeletion_149 : decode cJ33_balanceDeletion 149 = .ok (.getfield 93, 3) := dk_180 0 93 (dk_at dksJ33_balanceDeletion_6 10 rfl rfl)
theorem dJ33_balanceDeletion_152 : decode cJ33_balanceDeletion 152 = .ok (.ifCond .ne 14, 3) := dk_154 0 14 (dk_at dksJ33_balanceDeletion_6 13 rfl rfl)
theorem dJ33_balanceDeletion_155 : decode cJ33_balanceDeletion 155 = .ok (.aload 4, 2) := dk_25 4 (dk_at dksJ33_balanceDeletion_6 16 rfl rfl)
theorem dJ33_balanceDeletion_157 : decode cJ33_balanceDeletion 157 = .ok (.iconst 1, 1) := dk_4 (dk_at dksJ33_balanceDeletion_6 18 rfl rfl)
theorem dJ33_balanceDeletion_158 : decode cJ33_balanceDeletion 158 = .ok (.putfield 93, 3) := dk_181 0 93 (dk_at dksJ33_balanceDeletion_6 19 rfl rfl)
theorem dJ33_balanceDeletion_161 : decode cJ33_balanceDeletion 161 = .ok (.aload_n 2, 1) := dk_44 (dk_at dksJ33_balanceDeletion_6 22 rfl rfl)
theorem dJ33_balanceDeletion_162 : decode cJ33_balanceDeletion 162 = .ok (.astore_n 1, 1) := dk_76 (dk_at dksJ33_balanceDeletion_6 23 rfl rfl)
theorem dJ33_balanceDeletion_163 : decode cJ33_balanceDeletion 163 = .ok (.goto 115, 3) := dk_167 0 115 (dk_at dksJ33_balanceDeletion_7 0 rfl rfl)
theorem dJ33_balanceDeletion_166 : decode cJ33_balanceDeletion 166 = .ok (.aload 6, 2) := dk_25 6 (dk_at dksJ33_balanceDeletion_7 3 rfl rfl)
theorem dJ33_balanceDeletion_168 : decode cJ33_balanceDeletion 168 = .ok (.ifnull 11, 3) := dk_198 0 11 (dk_at dksJ33_balanceDeletion_7 5 rfl rfl)
theorem dJ33_balanceDeletion_171 : decode cJ33_balanceDeletion 171 = .ok (.aload 6, 2) := dk_25 6 (dk_at dksJ33_balanceDeletion_7 8 rfl rfl)
theorem dJ33_balanceDeletion_173 : decode cJ33_balanceDeletion 173 = .ok (.getfield 93, 3) := dk_180 0 93 (dk_at dksJ33_balanceDeletion_7 10 rfl rfl)
theorem dJ33_balanceDeletion_176 : decode cJ33_balanceDeletion 176 = .ok (.ifCond .ne 46, 3) := dk_154 0 46 (dk_at dksJ33_balanceDeletion_7 13 rfl rfl)
theorem dJ33_balanceDeletion_179 : decode cJ33_balanceDeletion 179 = .ok (.aload 5, 2) := dk_25 5 (dk_at dksJ33_balanceDeletion_7 16 rfl rfl)
theorem dJ33_balanceDeletion_181 : decode cJ33_balanceDeletion 181 = .ok (.ifnull 9, 3) := dk_198 0 9 (dk_at dksJ33_balanceDeletion_7 18 rfl rfl)
theorem dJ33_balanceDeletion_184 : decode cJ33_balanceDeletion 184 = .ok (.aload 5, 2) := dk_25 5 (dk_at dksJ33_balanceDeletion_7 21 rfl rfl)
theorem dJ33_balanceDeletion_186 : decode cJ33_balanceDeletion 186 = .ok (.iconst 0, 1) := dk_3 (dk_at dksJ33_balanceDeletion_7 23 rfl rfl)
theorem dJ33_balanceDeletion_187 : decode cJ33_balanceDeletion 187 = .ok (.putfield 93, 3) := dk_181 0 93 (dk_at dksJ33_balanceDeletion_8 0 rfl rfl)
theorem dJ33_balanceDeletion_190 : decode cJ33_balanceDeletion 190 = .ok (.aload 4, 2) := dk_25 4 (dk_at dksJ33_balanceDeletion_8 3 rfl rfl)
theorem dJ33_balanceDeletion_192 : decode cJ33_balanceDeletion 192 = .ok (.iconst 1, 1) := dk_4 (dk_at dksJ33_balanceDeletion_8 5 rfl rfl)
theorem dJ33_balanceDeletion_193 : decode cJ33_balanceDeletion 193 = .ok (.putfield 93, 3) := dk_181 0 93 (dk_at dksJ33_balanceDeletion_8 6 rfl rfl)
theorem dJ33_balanceDeletion_196 : decode cJ33_balanceDeletion 196 = .ok (.aload_n 0, 1) := dk_42 (dk_at dksJ33_balanceDeletion_8 9 rfl rfl)
theorem dJ33_balanceDeletion_197 : decode cJ33_balanceDeletion 197 = .ok (.aload 4, 2) := dk_25 4 (dk_at dksJ33_balanceDeletion_8 10 rfl rfl)
theorem dJ33_balanceDeletion_199 : decode cJ33_balanceDeletion 199 = .ok (.invokestatic 133, 3) := dk_184 0 133 (dk_at dksJ33_balanceDeletion_8 12 rfl rfl)
theorem dJ33_balanceDeletion_202 : decode cJ33_balanceDeletion 202 = .ok (.astore_n 0, 1) := dk_75 (dk_at dksJ33_balanceDeletion_8 15 rfl rfl)
theorem dJ33_balanceDeletion_203 : decode cJ33_balanceDeletion 203 = .ok (.aload_n 1, 1) := dk_43 (dk_at dksJ33_balanceDeletion_8 16 rfl rfl)
theorem dJ33_balanceDeletion_204 : decode cJ33_balanceDeletion 204 = .ok (.getfield 9, 3) := dk_180 0 9 (dk_at dksJ33_balanceDeletion_8 17 rfl rfl)
theorem dJ33_balanceDeletion_207 : decode cJ33_balanceDeletion 207 = .ok (.dup, 1) := dk_89 (dk_at dksJ33_balanceDeletion_8 20 rfl rfl)
theorem dJ33_balanceDeletion_208 : decode cJ33_balanceDeletion 208 = .ok (.astore_n 2, 1) := dk_77 (dk_at dksJ33_balanceDeletion_8 21 rfl rfl)
theorem dJ33_balanceDeletion_209 : decode cJ33_balanceDeletion 209 = .ok (.ifnonnull 7, 3) := dk_199 0 7 (dk_at dksJ33_balanceDeletion_9 0 rfl rfl)
theorem dJ33_balanceDeletion_212 : decode cJ33_balanceDeletion 212 = .ok (.aconst_null, 1) := dk_1 (dk_at dksJ33_balanceDeletion_9 3 rfl rfl)
theorem dJ33_balanceDeletion_213 : decode cJ33_balanceDeletion 213 = .ok (.goto 7, 3) := dk_167 0 7 (dk_at dksJ33_balanceDeletion_9 4 rfl rfl)
theorem dJ33_balanceDeletion_216 : decode cJ33_balanceDeletion 216 = .ok (.aload_n 2, 1) := dk_44 (dk_at dksJ33_balanceDeletion_9 7 rfl rfl)
theorem dJ33_balanceDeletion_217 : decode cJ33_balanceDeletion 217 = .ok (.getfield 42, 3) := dk_180 0 42 (dk_at dksJ33_balanceDeletion_9 8 rfl rfl)
theorem dJ33_balanceDeletion_220 : decode cJ33_balanceDeletion 220 = .ok (.astore 4, 2) := dk_58 4 (dk_at dksJ33_balanceDeletion_9 11 rfl rfl)
theorem dJ33_balanceDeletion_222 : decode cJ33_balanceDeletion 222 = .ok (.aload 4, 2) := dk_25 4 (dk_at dksJ33_balanceDeletion_9 13 rfl rfl)
theorem dJ33_balanceDeletion_224 : decode cJ33_balanceDeletion 224 = .ok (.ifnull 37, 3) := dk_198 0 37 (dk_at dksJ33_balanceDeletion_9 15 rfl rfl)
theorem dJ33_balanceDeletion_227 : decode cJ33_balanceDeletion 227 = .ok (.aload 4, 2) := dk_25 4 (dk_at dksJ33_balanceDeletion_9 18 rfl rfl)
theorem dJ33_balanceDeletion_229 : decode cJ33_balanceDeletion 229 = .ok (.aload_n 2, 1) := dk_44 (dk_at dksJ33_balanceDeletion_9 20 rfl rfl)
theorem dJ33_balanceDeletion_230 : decode cJ33_balanceDeletion 230 = .ok (.ifnonnull 7, 3) := dk_199 0 7 (dk_at dksJ33_balanceDeletion_9 21 rfl rfl)
theorem dJ33_balanceDeletion_233 : decode cJ33_balanceDeletion 233 = .ok (.iconst 0, 1) := dk_3 (dk_at dksJ33_balanceDeletion_10 0 rfl rfl)
theorem dJ33_balanceDeletion_234 : decode cJ33_balanceDeletion 234 = .ok (.goto 7, 3) := dk_167 0 7 (dk_at dksJ33_balanceDeletion_10 1 rfl rfl)
theorem dJ33_balanceDeletion_237 : decode cJ33_balanceDeletion 237 = .ok (.aload_n 2, 1) := dk_44 (dk_at dksJ33_balanceDeletion_10 4 rfl rfl)
theorem dJ33_balanceDeletion_238 : decode cJ33_balanceDeletion 238 = .ok (.getfield 93, 3) := dk_180 0 93 (dk_at dksJ33_balanceDeletion_10 5 rfl rfl)
theorem dJ33_balanceDeletion_241 : decode cJ33_balanceDeletion 241 = .ok (.putfield 93, 3) := dk_181 0 93 (dk_at dksJ33_balanceDeletion_10 8 rfl rfl)
theorem dJ33_balanceDeletion_244 : decode cJ33_balanceDeletion 244 = .ok (.aload 4, 2) := dk_25 4 (dk_at dksJ33_balanceDeletion_10 11 rfl rfl)
theorem dJ33_balanceDeletion_246 : decode cJ33_balanceDeletion 246 = .ok (.getfield 42, 3) := dk_180 0 42 (dk_at dksJ33_balanceDeletion_10 13 rfl rfl)
theorem dJ33_balanceDeletion_249 : decode cJ33_balanceDeletion 249 = .ok (.dup, 1) := dk_89 (dk_at dksJ33_balanceDeletion_10 16 rfl rfl)
theorem dJ33_balanceDeletion_250 : decode cJ33_balanceDeletion 250 = .ok (.astore 6, 2) := dk_58 6 (dk_at dksJ33_balanceDeletion_10 17 rfl rfl)
theorem dJ33_balanceDeletion_252 : decode cJ33_balanceDeletion 252 = .ok (.ifnull 9, 3) := dk_198 0 9 (dk_at dksJ33_balanceDeletion_10 19 rfl rfl)
theorem dJ33_balanceDeletion_255 : decode cJ33_balanceDeletion 255 = .ok (.aload 6, 2) := dk_25 6 (dk_at dksJ33_balanceDeletion_10 22 rfl rfl)
theorem dJ33_balanceDeletion_257 : decode cJ33_balanceDeletion 257 = .ok (.iconst 0, 1) := dk_3 (dk_at dksJ33_balanceDeletion_11 0 rfl rfl)
theorem dJ33_balanceDeletion_258 : decode cJ33_balanceDeletion 258 = .ok (.putfield 93, 3) := dk_181 0 93 (dk_at dksJ33_balanceDeletion_11 1 rfl rfl)
theorem dJ33_balanceDeletion_261 : decode cJ33_balanceDeletion 261 = .ok (.aload_n 2, 1) := dk_44 (dk_at dksJ33_balanceDeletion_11 4 rfl rfl)
theorem dJ33_balanceDeletion_262 : decode cJ33_balanceDeletion 262 = .ok (.ifnull 14, 3) := dk_198 0 14 (dk_at dksJ33_balanceDeletion_11 5 rfl rfl)
theorem dJ33_balanceDeletion_265 : decode cJ33_balanceDeletion 265 = .ok (.aload_n 2, 1) := dk_44 (dk_at dksJ33_balanceDeletion_11 8 rfl rfl)
theorem dJ33_balanceDeletion_266 : decode cJ33_balanceDeletion 266 = .ok (.iconst 0, 1) := dk_3 (dk_at dksJ33_balanceDeletion_11 9 rfl rfl)
theorem dJ33_balanceDeletion_267 : decode cJ33_balanceDeletion 267 = .ok (.putfield 93, 3) := dk_181 0 93 (dk_at dksJ33_balanceDeletion_11 10 rfl rfl)
theorem dJ33_balanceDeletion_270 : decode cJ33_balanceDeletion 270 = .ok (.aload_n 0, 1) := dk_42 (dk_at dksJ33_balanceDeletion_11 13 rfl rfl)
theorem dJ33_balanceDeletion_271 : decode cJ33_balanceDeletion 271 = .ok (.aload_n 2, 1) := dk_44 (dk_at dksJ33_balanceDeletion_11 14 rfl rfl)
theorem dJ33_balanceDeletion_272 : decode cJ33_balanceDeletion 272 = .ok (.invokestatic 130, 3) := dk_184 0 130 (dk_at dksJ33_balanceDeletion_11 15 rfl rfl)
theorem dJ33_balanceDeletion_275 : decode cJ33_balanceDeletion 275 = .ok (.astore_n 0, 1) := dk_75 (dk_at dksJ33_balanceDeletion_11 18 rfl rfl)
theorem dJ33_balanceDeletion_276 : decode cJ33_balanceDeletion 276 = .ok (.aload_n 0, 1) := dk_42 (dk_at dksJ33_balanceDeletion_11 19 rfl rfl)
theorem dJ33_balanceDeletion_277 : decode cJ33_balanceDeletion 277 = .ok (.astore_n 1, 1) := dk_76 (dk_at dksJ33_balanceDeletion_11 20 rfl rfl)
theorem dJ33_balanceDeletion_278 : decode cJ33_balanceDeletion 278 = .ok (.goto (-278), 3) := dk_167 254 234 (dk_at dksJ33_balanceDeletion_11 21 rfl rfl)
theorem dJ33_balanceDeletion_281 : decode cJ33_balanceDeletion 281 = .ok (.aload_n 3, 1) := dk_45 (dk_at dksJ33_balanceDeletion_12 0 rfl rfl)
theorem dJ33_balanceDeletion_282 : decode cJ33_balanceDeletion 282 = .ok (.ifnull 44, 3) := dk_198 0 44 (dk_at dksJ33_balanceDeletion_12 1 rfl rfl)
theorem dJ33_balanceDeletion_285 : decode cJ33_balanceDeletion 285 = .ok (.aload_n 3, 1) := dk_45 (dk_at dksJ33_balanceDeletion_12 4 rfl rfl)
theorem dJ33_balanceDeletion_286 : decode cJ33_balanceDeletion 286 = .ok (.getfield 93, 3) := dk_180 0 93 (dk_at dksJ33_balanceDeletion_12 5 rfl rfl)
theorem dJ33_balanceDeletion_289 : decode cJ33_balanceDeletion 289 = .ok (.ifCond .eq 37, 3) := dk_153 0 37 (dk_at dksJ33_balanceDeletion_12 8 rfl rfl)
theorem dJ33_balanceDeletion_292 : decode cJ33_balanceDeletion 292 = .ok (.aload_n 3, 1) := dk_45 (dk_at dksJ33_balanceDeletion_12 11 rfl rfl)
theorem dJ33_balanceDeletion_293 : decode cJ33_balanceDeletion 293 = .ok (.iconst 0, 1) := dk_3 (dk_at dksJ33_balanceDeletion_12 12 rfl rfl)
theorem dJ33_balanceDeletion_294 : decode cJ33_balanceDeletion 294 = .ok (.putfield 93, 3) := dk_181 0 93 (dk_at dksJ33_balanceDeletion_12 13 rfl rfl)
theorem dJ33_balanceDeletion_297 : decode cJ33_balanceDeletion 297 = .ok (.aload_n 2, 1) := dk_44 (dk_at dksJ33_balanceDeletion_12 16 rfl rfl)
theorem dJ33_balanceDeletion_298 : decode cJ33_balanceDeletion 298 = .ok (.iconst 1, 1) := dk_4 (dk_at dksJ33_balanceDeletion_12 17 rfl rfl)
theorem dJ33_balanceDeletion_299 : decode cJ33_balanceDeletion 299 = .ok (.putfield 93, 3) := dk_181 0 93 (dk_at dksJ33_balanceDeletion_12 18 rfl rfl)
theorem dJ33_balanceDeletion_302 : decode cJ33_balanceDeletion 302 = .ok (.aload_n 0, 1) := dk_42 (dk_at dksJ33_balanceDeletion_12 21 rfl rfl)
theorem dJ33_balanceDeletion_303 : decode cJ33_balanceDeletion 303 = .ok (.aload_n 2, 1) := dk_44 (dk_at dksJ33_balanceDeletion_12 22 rfl rfl)
theorem dJ33_balanceDeletion_304 : decode cJ33_balanceDeletion 304 = .ok (.invokestatic 133, 3) := dk_184 0 133 (dk_at dksJ33_balanceDeletion_13 0 rfl rfl)
theorem dJ33_balanceDeletion_307 : decode cJ33_balanceDeletion 307 = .ok (.astore_n 0, 1) := dk_75 (dk_at dksJ33_balanceDeletion_13 3 rfl rfl)
theorem dJ33_balanceDeletion_308 : decode cJ33_balanceDeletion 308 = .ok (.aload_n 1, 1) := dk_43 (dk_at dksJ33_balanceDeletion_13 4 rfl rfl)
theorem dJ33_balanceDeletion_309 : decode cJ33_balanceDeletion 309 = .ok (.getfield 9, 3) := dk_180 0 9 (dk_at dksJ33_balanceDeletion_13 5 rfl rfl)
theorem dJ33_balanceDeletion_312 : decode cJ33_balanceDeletion 312 = .ok (.dup, 1) := dk_89 (dk_at dksJ33_balanceDeletion_13 8 rfl rfl)
theorem dJ33_balanceDeletion_313 : decode cJ33_balanceDeletion 313 = .ok (.astore_n 2, 1) := dk_77 (dk_at dksJ33_balanceDeletion_13 9 rfl rfl)
theorem dJ33_balanceDeletion_314 : decode cJ33_balanceDeletion 314 = .ok (.ifnonnull 7, 3) := dk_199 0 7 (dk_at dksJ33_balanceDeletion_13 10 rfl rfl)
theorem dJ33_balanceDeletion_317 : decode cJ33_balanceDeletion 317 = .ok (.aconst_null, 1) := dk_1 (dk_at dksJ33_balanceDeletion_13 13 rfl rfl)
theorem dJ33_balanceDeletion_318 : decode cJ33_balanceDeletion 318 = .ok (.goto 7, 3) := dk_167 0 7 (dk_at dksJ33_balanceDeletion_13 14 rfl rfl)
theorem dJ33_balanceDeletion_321 : decode cJ33_balanceDeletion 321 = .ok (.aload_n 2, 1) := dk_44 (dk_at dksJ33_balanceDeletion_13 17 rfl rfl)
theorem dJ33_balanceDeletion_322 : decode cJ33_balanceDeletion 322 = .ok (.getfield 39, 3) := dk_180 0 39 (dk_at dksJ33_balanceDeletion_13 18 rfl rfl)
theorem dJ33_balanceDeletion_325 : decode cJ33_balanceDeletion 325 = .ok (.astore_n 3, 1) := dk_78 (dk_at dksJ33_balanceDeletion_13 21 rfl rfl)
theorem dJ33_balanceDeletion_326 : decode cJ33_balanceDeletion 326 = .ok (.aload_n 3, 1) := dk_45 (dk_at dksJ33_balanceDeletion_13 22 rfl rfl)
theorem dJ33_balanceDeletion_327 : decode cJ33_balanceDeletion 327 = .ok (.ifnonnull 8, 3) := dk_199 0 8 (dk_at dksJ33_balanceDeletion_14 0 rfl rfl)
theorem dJ33_balanceDeletion_330 : decode cJ33_balanceDeletion 330 = .ok (.aload_n 2, 1) := dk_44 (dk_at dksJ33_balanceDeletion_14 3 rfl rfl)
theorem dJ33_balanceDeletion_331 : decode cJ33_balanceDeletion 331 = .ok (.astore_n 1, 1) := dk_76 (dk_at dksJ33_balanceDeletion_14 4 rfl rfl)
theorem dJ33_balanceDeletion_332 : decode cJ33_balanceDeletion 332 = .ok (.goto (-332), 3) := dk_167 254 180 (dk_at dksJ33_balanceDeletion_14 5 rfl rfl)
theorem dJ33_balanceDeletion_335 : decode cJ33_balanceDeletion 335 = .ok (.aload_n 3, 1) := dk_45 (dk_at dksJ33_balanceDeletion_14 8 rfl rfl)
theorem dJ33_balanceDeletion_336 : decode cJ33_balanceDeletion 336 = .ok (.getfield 39, 3) := dk_180 0 39 (dk_at dksJ33_balanceDeletion_14 9 rfl rfl)
theorem dJ33_balanceDeletion_339 : decode cJ33_balanceDeletion 339 = .ok (.astore 5, 2) := dk_58 5 (dk_at dksJ33_balanceDeletion_14 12 rfl rfl)
theorem dJ33_balanceDeletion_341 : decode cJ33_balanceDeletion 341 = .ok (.aload_n 3, 1) := dk_45 (dk_at dksJ33_balanceDeletion_14 14 rfl rfl)
theorem dJ33_balanceDeletion_342 : decode cJ33_balanceDeletion 342 = .ok (.getfield 42, 3) := dk_180 0 42 (dk_at dksJ33_balanceDeletion_14 15 rfl rfl)
theorem dJ33_balanceDeletion_345 : decode cJ33_balanceDeletion 345 = .ok (.astore 6, 2) := dk_58 6 (dk_at dksJ33_balanceDeletion_14 18 rfl rfl)
theorem dJ33_balanceDeletion_347 : decode cJ33_balanceDeletion 347 = .ok (.aload 5, 2) := dk_25 5 (dk_at dksJ33_balanceDeletion_14 20 rfl rfl)
theorem dJ33_balanceDeletion_349 : decode cJ33_balanceDeletion 349 = .ok (.ifnull 11, 3) := dk_198 0 11 (dk_at dksJ33_balanceDeletion_15 0 rfl rfl)
theorem dJ33_balanceDeletion_352 : decode cJ33_balanceDeletion 352 = .ok (.aload 5, 2) := dk_25 5 (dk_at dksJ33_balanceDeletion_15 3 rfl rfl)
theorem dJ33_balanceDeletion_354 : decode cJ33_balanceDeletion 354 = .ok (.getfield 93, 3) := dk_180 0 93 (dk_at dksJ33_balanceDeletion_15 5 rfl rfl)
theorem dJ33_balanceDeletion_357 : decode cJ33_balanceDeletion 357 = .ok (.ifCond .ne 26, 3) := dk_154 0 26 (dk_at dksJ33_balanceDeletion_15 8 rfl rfl)
theorem dJ33_balanceDeletion_360 : decode cJ33_balanceDeletion 360 = .ok (.aload 6, 2) := dk_25 6 (dk_at dksJ33_balanceDeletion_15 11 rfl rfl)
theorem dJ33_balanceDeletion_362 : decode cJ33_balanceDeletion 362 = .ok (.ifnull 11, 3) := dk_198 0 11 (dk_at dksJ33_balanceDeletion_15 13 rfl rfl)
theorem dJ33_balanceDeletion_365 : decode cJ33_balanceDeletion 365 = .ok (.aload 6, 2) := dk_25 6 (dk_at dksJ33_balanceDeletion_15 16 rfl rfl)
theorem dJ33_balanceDeletion_367 : decode cJ33_balanceDeletion 367 = .ok (.getfield 93, 3) := dk_180 0 93 (dk_at dksJ33_balanceDeletion_15 18 rfl rfl)
theorem dJ33_balanceDeletion_370 : decode cJ33_balanceDeletion 370 = .ok (.ifCond .ne 13, 3) := dk_154 0 13 (dk_at dksJ33_balanceDeletion_15 21 rfl rfl)
theorem dJ33_balanceDeletion_373 : decode cJ33_balanceDeletion 373 = .ok (.aload_n 3, 1) := dk_45 (dk_at dksJ33_balanceDeletion_16 0 rfl rfl)
theorem dJ33_balanceDeletion_374 : decode cJ33_balanceDeletion 374 = .ok (.iconst 1, 1) := dk_4 (dk_at dksJ33_balanceDeletion_16 1 rfl rfl)
theorem dJ33_balanceDeletion_375 : decode cJ33_balanceDeletion 375 = .ok (.putfield 93, 3) := dk_181 0 93 (dk_at dksJ33_balanceDeletion_16 2 rfl rfl)
theorem dJ33_balanceDeletion_378 : decode cJ33_balanceDeletion 378 = .ok (.aload_n 2, 1) := dk_44 (dk_at dksJ33_balanceDeletion_16 5 rfl rfl)
theorem dJ33_balanceDeletion_379 : decode cJ33_balanceDeletion 379 = .ok (.astore_n 1, 1) := dk_76 (dk_at dksJ33_balanceDeletion_16 6 rfl rfl)
theorem dJ33_balanceDeletion_380 : decode cJ33_balanceDeletion 380 = .ok (.goto 109, 3) := dk_167 0 109 (dk_at dksJ33_balanceDeletion_16 7 rfl rfl)
theorem dJ33_balanceDeletion_383 : decode cJ33_balanceDeletion 383 = .ok (.aload 5, 2) := dk_25 5 (dk_at dksJ33_balanceDeletion_16 10 rfl rfl)
theorem dJ33_balanceDeletion_385 : decode cJ33_balanceDeletion 385 = .ok (.ifnull 11, 3) := dk_198 0 11 (dk_at dksJ33_balanceDeletion_16 12 rfl rfl)
theorem dJ33_balanceDeletion_388 : decode cJ33_balanceDeletion 388 = .ok (.aload 5, 2) := dk_25 5 (dk_at dksJ33_balanceDeletion_16 15 rfl rfl)
theorem dJ33_balanceDeletion_390 : decode cJ33_balanceDeletion 390 = .ok (.getfield 93, 3) := dk_180 0 93 (dk_at dksJ33_balanceDeletion_16 17 rfl rfl)
theorem dJ33_balanceDeletion_393 : decode cJ33_balanceDeletion 393 = .ok (.ifCond .ne 43, 3) := dk_154 0 43 (dk_at dksJ33_balanceDeletion_16 20 rfl rfl)
theorem dJ33_balanceDeletion_396 : decode cJ33_balanceDeletion 396 = .ok (.aload 6, 2) := dk_25 6 (dk_at dksJ33_balanceDeletion_17 0 rfl rfl)
theorem dJ33_balanceDeletion_398 : decode cJ33_balanceDeletion 398 = .ok (.ifnull 9, 3) := dk_198 0 9 (dk_at dksJ33_balanceDeletion_17 2 rfl rfl)
theorem dJ33_balanceDeletion_401 : decode cJ33_balanceDeletion 401 = .ok (.aload 6, 2) := dk_25 6 (dk_at dksJ33_balanceDeletion_17 5 rfl rfl)
theorem dJ33_balanceDeletion_403 : decode cJ33_balanceDeletion 403 = .ok (.iconst 0, 1) := dk_3 (dk_at dksJ33_balanceDeletion_17 7 rfl rfl)
theorem dJ33_balanceDeletion_404 : decode cJ33_balanceDeletion 404 = .ok (.putfield 93, 3) := dk_181 0 93 (dk_at dksJ33_balanceDeletion_17 8 rfl rfl)
theorem dJ33_balanceDeletion_407 : decode cJ33_balanceDeletion 407 = .ok (.aload_n 3, 1) := dk_45 (dk_at dksJ33_balanceDeletion_17 11 rfl rfl)
theorem dJ33_balanceDeletion_408 : decode cJ33_balanceDeletion 408 = .ok (.iconst 1, 1) := dk_4 (dk_at dksJ33_balanceDeletion_17 12 rfl rfl)
theorem dJ33_balanceDeletion_409 : decode cJ33_balanceDeletion 409 = .ok (.putfield 93, 3) := dk_181 0 93 (dk_at dksJ33_balanceDeletion_17 13 rfl rfl)
theorem dJ33_balanceDeletion_412 : decode cJ33_balanceDeletion 412 = .ok (.aload_n 0, 1) := dk_42 (dk_at dksJ33_balanceDeletion_17 16 rfl rfl)
theorem dJ33_balanceDeletion_413 : decode cJ33_balanceDeletion 413 = .ok (.aload_n 3, 1) := dk_45 (dk_at dksJ33_balanceDeletion_17 17 rfl rfl)
theorem dJ33_balanceDeletion_414 : decode cJ33_balanceDeletion 414 = .ok (.invokestatic 130, 3) := dk_184 0 130 (dk_at dksJ33_balanceDeletion_17 18 rfl rfl)
theorem dJ33_balanceDeletion_417 : decode cJ33_balanceDeletion 417 = .ok (.astore_n 0, 1) := dk_75 (dk_at dksJ33_balanceDeletion_17 21 rfl rfl)
theorem dJ33_balanceDeletion_418 : decode cJ33_balanceDeletion 418 = .ok (.aload_n 1, 1) := dk_43 (dk_at dksJ33_balanceDeletion_17 22 rfl rfl)
theorem dJ33_balanceDeletion_419 : decode cJ33_balanceDeletion 419 = .ok (.getfield 9, 3) := dk_180 0 9 (dk_at dksJ33_balanceDeletion_18 0 rfl rfl)
theorem dJ33_balanceDeletion_422 : decode cJ33_balanceDeletion 422 = .ok (.dup, 1) := dk_89 (dk_at dksJ33_balanceDeletion_18 3 rfl rfl)
theorem dJ33_balanceDeletion_423 : decode cJ33_balanceDeletion 423 = .ok (.astore_n 2, 1) := dk_77 (dk_at dksJ33_balanceDeletion_18 4 rfl rfl)
theorem dJ33_balanceDeletion_424 : decode cJ33_balanceDeletion 424 = .ok (.ifnonnull 7, 3) := dk_199 0 7 (dk_at dksJ33_balanceDeletion_18 5 rfl rfl)
theorem dJ33_balanceDeletion_427 : decode cJ33_balanceDeletion 427 = .ok (.aconst_null, 1) := dk_1 (dk_at dksJ33_balanceDeletion_18 8 rfl rfl)
theorem dJ33_balanceDeletion_428 : decode cJ33_balanceDeletion 428 = .ok (.goto 7, 3) := dk_167 0 7 (dk_at dksJ33_balanceDeletion_18 9 rfl rfl)
theorem dJ33_balanceDeletion_431 : decode cJ33_balanceDeletion 431 = .ok (.aload_n 2, 1) := dk_44 (dk_at dksJ33_balanceDeletion_18 12 rfl rfl)
theorem dJ33_balanceDeletion_432 : decode cJ33_balanceDeletion 432 = .ok (.getfield 39, 3) := dk_180 0 39 (dk_at dksJ33_balanceDeletion_18 13 rfl rfl)
theorem dJ33_balanceDeletion_435 : decode cJ33_balanceDeletion 435 = .ok (.astore_n 3, 1) := dk_78 (dk_at dksJ33_balanceDeletion_18 16 rfl rfl)
theorem dJ33_balanceDeletion_436 : decode cJ33_balanceDeletion 436 = .ok (.aload_n 3, 1) := dk_45 (dk_at dksJ33_balanceDeletion_18 17 rfl rfl)
theorem dJ33_balanceDeletion_437 : decode cJ33_balanceDeletion 437 = .ok (.ifnull 35, 3) := dk_198 0 35 (dk_at dksJ33_balanceDeletion_18 18 rfl rfl)
theorem dJ33_balanceDeletion_440 : decode cJ33_balanceDeletion 440 = .ok (.aload_n 3, 1) := dk_45 (dk_at dksJ33_balanceDeletion_18 21 rfl rfl)
theorem dJ33_balanceDeletion_441 : decode cJ33_balanceDeletion 441 = .ok (.aload_n 2, 1) := dk_44 (dk_at dksJ33_balanceDeletion_18 22 rfl rfl)
theorem dJ33_balanceDeletion_442 : decode cJ33_balanceDeletion 442 = .ok (.ifnonnull 7, 3) := dk_199 0 7 (dk_at dksJ33_balanceDeletion_19 0 rfl rfl)
theorem dJ33_balanceDeletion_445 : decode cJ33_balanceDeletion 445 = .ok (.iconst 0, 1) := dk_3 (dk_at dksJ33_balanceDeletion_19 3 rfl rfl)
theorem dJ33_balanceDeletion_446 : decode cJ33_balanceDeletion 446 = .ok (.goto 7, 3) := dk_167 0 7 (dk_at dksJ33_balanceDeletion_19 4 rfl rfl)
theorem dJ33_balanceDeletion_449 : decode cJ33_balanceDeletion 449 = .ok (.aload_n 2, 1) := dk_44 (dk_at dksJ33_balanceDeletion_19 7 rfl rfl)
theorem dJ33_balanceDeletion_450 : decode cJ33_balanceDeletion 450 = .ok (.getfield 93, 3) := dk_180 0 93 (dk_at dksJ33_balanceDeletion_19 8 rfl rfl)
theorem dJ33_balanceDeletion_453 : decode cJ33_balanceDeletion 453 = .ok (.putfield 93, 3) := dk_181 0 93 (dk_at dksJ33_balanceDeletion_19 11 rfl rfl)
theorem dJ33_balanceDeletion_456 : decode cJ33_balanceDeletion 456 = .ok (.aload_n 3, 1) := dk_45 (dk_at dksJ33_balanceDeletion_19 14 rfl rfl)
theorem dJ33_balanceDeletion_457 : decode cJ33_balanceDeletion 457 = .ok (.getfield 39, 3) := dk_180 0 39 (dk_at dksJ33_balanceDeletion_19 15 rfl rfl)
theorem dJ33_balanceDeletion_460 : decode cJ33_balanceDeletion 460 = .ok (.dup, 1) := dk_89 (dk_at dksJ33_balanceDeletion_19 18 rfl rfl)
theorem dJ33_balanceDeletion_461 : decode cJ33_balanceDeletion 461 = .ok (.astore 5, 2) := dk_58 5 (dk_at dksJ33_balanceDeletion_19 19 rfl rfl)
theorem dJ33_balanceDeletion_463 : decode cJ33_balanceDeletion 463 = .ok (.ifnull 9, 3) := dk_198 0 9 (dk_at dksJ33_balanceDeletion_19 21 rfl rfl)
theorem dJ33_balanceDeletion_466 : decode cJ33_balanceDeletion 466 = .ok (.aload 5, 2) := dk_25 5 (dk_at dksJ33_balanceDeletion_20 0 rfl rfl)
theorem dJ33_balanceDeletion_468 : decode cJ33_balanceDeletion 468 = .ok (.iconst 0, 1) := dk_3 (dk_at dksJ33_balanceDeletion_20 2 rfl rfl)
theorem dJ33_balanceDeletion_469 : decode cJ33_balanceDeletion 469 = .ok (.putfield 93, 3) := dk_181 0 93 (dk_at dksJ33_balanceDeletion_20 3 rfl rfl)
theorem dJ33_balanceDeletion_472 : decode cJ33_balanceDeletion 472 = .ok (.aload_n 2, 1) := dk_44 (dk_at dksJ33_balanceDeletion_20 6 rfl rfl)
theorem dJ33_balanceDeletion_473 : decode cJ33_balanceDeletion 473 = .ok (.ifnull 14, 3) := dk_198 0 14 (dk_at dksJ33_balanceDeletion_20 7 rfl rfl)
theorem dJ33_balanceDeletion_476 : decode cJ33_balanceDeletion 476 = .ok (.aload_n 2, 1) := dk_44 (dk_at dksJ33_balanceDeletion_20 10 rfl rfl)
theorem dJ33_balanceDeletion_477 : decode cJ33_balanceDeletion 477 = .ok (.iconst 0, 1) := dk_3 (dk_at dksJ33_balanceDeletion_20 11 rfl rfl)
theorem dJ33_balanceDeletion_478 : decode cJ33_balanceDeletion 478 = .ok (.putfield 93, 3) := dk_181 0 93 (dk_at dksJ33_balanceDeletion_20 12 rfl rfl)
theorem dJ33_balanceDeletion_481 : decode cJ33_balanceDeletion 481 = .ok (.aload_n 0, 1) := dk_42 (dk_at dksJ33_balanceDeletion_20 15 rfl rfl)
theorem dJ33_balanceDeletion_482 : decode cJ33_balanceDeletion 482 = .ok (.aload_n 2, 1) := dk_44 (dk_at dksJ33_balanceDeletion_20 16 rfl rfl)
theorem dJ33_balanceDeletion_483 : decode cJ33_balanceDeletion 483 = .ok (.invokestatic 133, 3) := dk_184 0 133 (dk_at dksJ33_balanceDeletion_20 17 rfl rfl)
theorem dJ33_balanceDeletion_486 : decode cJ33_balanceDeletion 486 = .ok (.astore_n 0, 1) := dk_75 (dk_at dksJ33_balanceDeletion_20 20 rfl rfl)
theorem dJ33_balanceDeletion_487 : decode cJ33_balanceDeletion 487 = .ok (.aload_n 0, 1) := dk_42 (dk_at dksJ33_balanceDeletion_20 21 rfl rfl)
theorem dJ33_balanceDeletion_488 : decode cJ33_balanceDeletion 488 = .ok (.astore_n 1, 1) := dk_76 (dk_at dksJ33_balanceDeletion_20 22 rfl rfl)
theorem dJ33_balanceDeletion_489 : decode cJ33_balanceDeletion 489 = .ok (.goto (-489), 3) := dk_167 254 23 (dk_at dksJ33_balanceDeletion_21 0 rfl rfl)
theorem q72 : (Jvm.Cond.initialized "java/util/HashMap$TreeNode") ∈ lw_all := lw_g (lw_at lw_m1 42 rfl) rfl
theorem q460 : (Jvm.Cond.selects "java/util/HashMap$TreeNode" ({ cls := "java/util/LinkedHashMap$Entry", name := "getKey", desc := "()Ljava/lang/Object;" } : Jvm.MethodName) ({ cls := "java/util/HashMap$Node", name := "getKey", desc := "()Ljava/lang/Object;" } : Jvm.MethodName)) ∈ lw_all := lw_g (lw_at lw_m2 190 rfl) rfl
theorem q554 : (Jvm.Cond.selects "java/util/HashMap$TreeNode" ({ cls := "java/lang/Object", name := "getClass", desc := "()Ljava/lang/Class;" } : Jvm.MethodName) ({ cls := "java/lang/Object", name := "getClass", desc := "()Ljava/lang/Class;" } : Jvm.MethodName)) ∈ lw_all := lw_g (lw_at lw_m3 44 rfl) rfl
theorem q780 : (Jvm.Cond.castable "java/util/HashMap$TreeNode" "java/util/Map$Entry") ∈ lw_tbl := lw_at lw_m4 30 rfl
theorem q781 : (Jvm.Cond.selects "java/util/HashMap$TreeNode" ({ cls := "java/util/Map$Entry", name := "getKey", desc := "()Ljava/lang/Object;" } : Jvm.MethodName) ({ cls := "java/util/HashMap$Node", name := "getKey", desc := "()Ljava/lang/Object;" } : Jvm.MethodName)) ∈ lw_all := lw_g (lw_at lw_m4 31 rfl) rfl
theorem q782 : (Jvm.Cond.unhidden "java/util/HashMap$TreeNode" "getKey" "()Ljava/lang/Object;") ∈ lw_tbl := lw_at lw_m4 32 rfl
theorem q796 : (Jvm.Cond.selects "java/util/HashMap$TreeNode" ({ cls := "java/util/Map$Entry", name := "getValue", desc := "()Ljava/lang/Object;" } : Jvm.MethodName) ({ cls := "java/util/HashMap$Node", name := "getValue", desc := "()Ljava/lang/Object;" } : Jvm.MethodName)) ∈ lw_all := lw_g (lw_at lw_m4 46 rfl) rfl
theorem q797 : (Jvm.Cond.unhidden "java/util/HashMap$TreeNode" "getValue" "()Ljava/lang/Object;") ∈ lw_tbl := lw_at lw_m4 47 rfl
theorem q922 : (Jvm.Cond.instanceMethod ({ cls := "java/util/HashMap$TreeNode", name := "split", desc := "(Ljava/util/HashMap;[Ljava/util/HashMap$Node;II)V" } : Jvm.MethodName)) ∈ lw_all := lw_g (lw_at lw_m4 172 rfl) rfl
theorem q923 : (Jvm.Cond.selects "java/util/HashMap$TreeNode" ({ cls := "java/util/HashMap$TreeNode", name := "split", desc := "(Ljava/util/HashMap;[Ljava/util/HashMap$Node;II)V" } : Jvm.MethodName) ({ cls := "java/util/HashMap$TreeNode", name := "split", desc := "(Ljava/util/HashMap;[Ljava/util/HashMap$Node;II)V" } : Jvm.MethodName)) ∈ lw_all := lw_g (lw_at lw_m4 173 rfl) rfl
theorem q924 : (Jvm.Cond.code ({ cls := "java/util/HashMap$TreeNode", name := "split", desc := "(Ljava/util/HashMap;[Ljava/util/HashMap$Node;II)V" } : Jvm.MethodName) prog_46_method_11_code (14 : Nat) (Option.none : Option Jvm.ClassFile.FieldType)) ∈ lw_all := lw_g (lw_at lw_m4 174 rfl) rfl
theorem q925 : (Jvm.Cond.classLink "java/util/HashMap$TreeNode" (10 : Nat) "java/util/HashMap$TreeNode") ∈ lw_all := lw_g (lw_at lw_m4 175 rfl) rfl
theorem q926 : (Jvm.Cond.methodLink "java/util/HashMap$TreeNode" (119 : Nat) ({ cls := "java/util/HashMap$TreeNode", name := "untreeify", desc := "(Ljava/util/HashMap;)Ljava/util/HashMap$Node;" } : Jvm.MethodName)) ∈ lw_all := lw_g (lw_at lw_m4 176 rfl) rfl
theorem q927 : (Jvm.Cond.instanceMethod ({ cls := "java/util/HashMap$TreeNode", name := "untreeify", desc := "(Ljava/util/HashMap;)Ljava/util/HashMap$Node;" } : Jvm.MethodName)) ∈ lw_all := lw_g (lw_at lw_m4 177 rfl) rfl
theorem q928 : (Jvm.Cond.selects "java/util/HashMap$TreeNode" ({ cls := "java/util/HashMap$TreeNode", name := "untreeify", desc := "(Ljava/util/HashMap;)Ljava/util/HashMap$Node;" } : Jvm.MethodName) ({ cls := "java/util/HashMap$TreeNode", name := "untreeify", desc := "(Ljava/util/HashMap;)Ljava/util/HashMap$Node;" } : Jvm.MethodName)) ∈ lw_all := lw_g (lw_at lw_m4 178 rfl) rfl
theorem q929 : (Jvm.Cond.code ({ cls := "java/util/HashMap$TreeNode", name := "untreeify", desc := "(Ljava/util/HashMap;)Ljava/util/HashMap$Node;" } : Jvm.MethodName) prog_46_method_8_code (6 : Nat) (Option.some (Jvm.ClassFile.FieldType.object "java/util/HashMap$Node"))) ∈ lw_all := lw_g (lw_at lw_m4 179 rfl) rfl
theorem q930 : (Jvm.Cond.methodLink "java/util/HashMap$TreeNode" (108 : Nat) ({ cls := "java/util/HashMap", name := "replacementNode", desc := "(Ljava/util/HashMap$Node;Ljava/util/HashMap$Node;)Ljava/util/HashMap$Node;" } : Jvm.MethodName)) ∈ lw_all := lw_g (lw_at lw_m4 180 rfl) rfl
theorem q951 : (Jvm.Cond.fieldLink "java/util/HashMap$TreeNode" (15 : Nat) "java/util/HashMap$TreeNode" "hash" "I") ∈ lw_all := lw_g (lw_at lw_m4 201 rfl) rfl
theorem q952 : (Jvm.Cond.sameField "java/util/HashMap$TreeNode" "java/util/HashMap$Node" "hash" "I") ∈ lw_all := lw_g (lw_at lw_m4 202 rfl) rfl
theorem q958 : (Jvm.Cond.fieldLink "java/util/HashMap$TreeNode" (45 : Nat) "java/util/HashMap$TreeNode" "key" "Ljava/lang/Object;") ∈ lw_all := lw_g (lw_at lw_m4 208 rfl) rfl
theorem q959 : (Jvm.Cond.sameField "java/util/HashMap$TreeNode" "java/util/HashMap$Node" "key" "Ljava/lang/Object;") ∈ lw_all := lw_g (lw_at lw_m4 209 rfl) rfl
theorem q970 : (Jvm.Cond.fieldLink "java/util/HashMap$TreeNode" (22 : Nat) "java/util/HashMap$TreeNode" "next" "Ljava/util/HashMap$Node;") ∈ lw_all := lw_g (lw_at lw_m4 220 rfl) rfl
theorem q971 : (Jvm.Cond.sameField "java/util/HashMap$TreeNode" "java/util/HashMap$Node" "next" "Ljava/util/HashMap$Node;") ∈ lw_all := lw_g (lw_at lw_m4 221 rfl) rfl
theorem q972 : (Jvm.Cond.fieldLink "java/util/HashMap$TreeNode" (112 : Nat) "java/util/HashMap$Node" "next" "Ljava/util/HashMap$Node;") ∈ lw_all := lw_g (lw_at lw_m4 222 rfl) rfl
theorem q1000 : (Jvm.Cond.methodLink "java/util/HashMap$TreeNode" (126 : Nat) ({ cls := "java/util/HashMap$TreeNode", name := "treeify", desc := "([Ljava/util/HashMap$Node;)V" } : Jvm.MethodName)) ∈ lw_all := lw_g (lw_at lw_m5 10 rfl) rfl
theorem q1001 : (Jvm.Cond.instanceMethod ({ cls := "java/util/HashMap$TreeNode", name := "treeify", desc := "([Ljava/util/HashMap$Node;)V" } : Jvm.MethodName)) ∈ lw_all := lw_g (lw_at lw_m5 11 rfl) rfl
theorem q1002 : (Jvm.Cond.selects "java/util/HashMap$TreeNode" ({ cls := "java/util/HashMap$TreeNode", name := "treeify", desc := "([Ljava/util/HashMap$Node;)V" } : Jvm.MethodName) ({ cls := "java/util/HashMap$TreeNode", name := "treeify", desc := "([Ljava/util/HashMap$Node;)V" } : Jvm.MethodName)) ∈ lw_all := lw_g (lw_at lw_m5 12 rfl) rfl
theorem q1003 : (Jvm.Cond.code ({ cls := "java/util/HashMap$TreeNode", name := "treeify", desc := "([Ljava/util/HashMap$Node;)V" } : Jvm.MethodName) prog_46_method_7_code (13 : Nat) (Option.none : Option Jvm.ClassFile.FieldType)) ∈ lw_all := lw_g (lw_at lw_m5 13 rfl) rfl
theorem q1004 : (Jvm.Cond.methodLink "java/util/HashMap$TreeNode" (55 : Nat) ({ cls := "java/util/HashMap", name := "comparableClassFor", desc := "(Ljava/lang/Object;)Ljava/lang/Class;" } : Jvm.MethodName)) ∈ lw_all := lw_g (lw_at lw_m5 14 rfl) rfl
theorem q1010 : (Jvm.Cond.methodLink "java/util/HashMap$TreeNode" (59 : Nat) ({ cls := "java/util/HashMap", name := "compareComparables", desc := "(Ljava/lang/Class;Ljava/lang/Object;Ljava/lang/Object;)I" } : Jvm.MethodName)) ∈ lw_all := lw_g (lw_at lw_m5 20 rfl) rfl
theorem q1224 : (Jvm.Cond.methodLink "java/util/HashMap$TreeNode" (100 : Nat) ({ cls := "java/util/HashMap$TreeNode", name := "balanceInsertion", desc := "(Ljava/util/HashMap$TreeNode;Ljava/util/HashMap$TreeNode;)Ljava/util/HashMap$TreeNode;" } : Jvm.MethodName)) ∈ lw_all := lw_g (lw_at lw_m5 234 rfl) rfl
theorem q1225 : (Jvm.Cond.static ({ cls := "java/util/HashMap$TreeNode", name := "balanceInsertion", desc := "(Ljava/util/HashMap$TreeNode;Ljava/util/HashMap$TreeNode;)Ljava/util/HashMap$TreeNode;" } : Jvm.MethodName)) ∈ lw_all := lw_g (lw_at lw_m5 235 rfl) rfl
theorem q1226 : (Jvm.Cond.code ({ cls := "java/util/HashMap$TreeNode", name := "balanceInsertion", desc := "(Ljava/util/HashMap$TreeNode;Ljava/util/HashMap$TreeNode;)Ljava/util/HashMap$TreeNode;" } : Jvm.MethodName) prog_46_method_14_code (6 : Nat) (Option.some (Jvm.ClassFile.FieldType.object "java/util/HashMap$TreeNode"))) ∈ lw_all := lw_g (lw_at lw_m5 236 rfl) rfl
theorem q1227 : (Jvm.Cond.methodLink "java/util/HashMap$TreeNode" (130 : Nat) ({ cls := "java/util/HashMap$TreeNode", name := "rotateLeft", desc := "(Ljava/util/HashMap$TreeNode;Ljava/util/HashMap$TreeNode;)Ljava/util/HashMap$TreeNode;" } : Jvm.MethodName)) ∈ lw_all := lw_g (lw_at lw_m5 237 rfl) rfl
theorem q1228 : (Jvm.Cond.static ({ cls := "java/util/HashMap$TreeNode", name := "rotateLeft", desc := "(Ljava/util/HashMap$TreeNode;Ljava/util/HashMap$TreeNode;)Ljava/util/HashMap$TreeNode;" } : Jvm.MethodName)) ∈ lw_all := lw_g (lw_at lw_m5 238 rfl) rfl
theorem q1229 : (Jvm.Cond.code ({ cls := "java/util/HashMap$TreeNode", name := "rotateLeft", desc := "(Ljava/util/HashMap$TreeNode;Ljava/util/HashMap$TreeNode;)Ljava/util/HashMap$TreeNode;" } : Jvm.MethodName) prog_46_method_12_code (5 : Nat) (Option.some (Jvm.ClassFile.FieldType.object "java/util/HashMap$TreeNode"))) ∈ lw_all := lw_g (lw_at lw_m5 239 rfl) rfl
theorem q1230 : (Jvm.Cond.methodLink "java/util/HashMap$TreeNode" (133 : Nat) ({ cls := "java/util/HashMap$TreeNode", name := "rotateRight", desc := "(Ljava/util/HashMap$TreeNode;Ljava/util/HashMap$TreeNode;)Ljava/util/HashMap$TreeNode;" } : Jvm.MethodName)) ∈ lw_all := lw_g (lw_at lw_m6 0 rfl) rfl
theorem q1231 : (Jvm.Cond.static ({ cls := "java/util/HashMap$TreeNode", name := "rotateRight", desc := "(Ljava/util/HashMap$TreeNode;Ljava/util/HashMap$TreeNode;)Ljava/util/HashMap$TreeNode;" } : Jvm.MethodName)) ∈ lw_all := lw_g (lw_at lw_m6 1 rfl) rfl
theorem q1232 : (Jvm.Cond.code ({ cls := "java/util/HashMap$TreeNode", name := "rotateRight", desc := "(Ljava/util/HashMap$TreeNode;Ljava/util/HashMap$TreeNode;)Ljava/util/HashMap$TreeNode;" } : Jvm.MethodName) prog_46_method_13_code (5 : Nat) (Option.some (Jvm.ClassFile.FieldType.object "java/util/HashMap$TreeNode"))) ∈ lw_all := lw_g (lw_at lw_m6 2 rfl) rfl
theorem q1233 : (Jvm.Cond.methodLink "java/util/HashMap$TreeNode" (104 : Nat) ({ cls := "java/util/HashMap$TreeNode", name := "moveRootToFront", desc := "([Ljava/util/HashMap$Node;Ljava/util/HashMap$TreeNode;)V" } : Jvm.MethodName)) ∈ lw_all := lw_g (lw_at lw_m6 3 rfl) rfl
theorem q1234 : (Jvm.Cond.static ({ cls := "java/util/HashMap$TreeNode", name := "moveRootToFront", desc := "([Ljava/util/HashMap$Node;Ljava/util/HashMap$TreeNode;)V" } : Jvm.MethodName)) ∈ lw_all := lw_g (lw_at lw_m6 4 rfl) rfl
theorem q1235 : (Jvm.Cond.code ({ cls := "java/util/HashMap$TreeNode", name := "moveRootToFront", desc := "([Ljava/util/HashMap$Node;Ljava/util/HashMap$TreeNode;)V" } : Jvm.MethodName) prog_46_method_3_code (7 : Nat) (Option.none : Option Jvm.ClassFile.FieldType)) ∈ lw_all := lw_g (lw_at lw_m6 5 rfl) rfl
theorem q1236 : (Jvm.Cond.fieldLink "java/util/HashMap$TreeNode" (26 : Nat) "java/util/HashMap$TreeNode" "$assertionsDisabled" "Z") ∈ lw_all := lw_g (lw_at lw_m6 6 rfl) rfl
theorem q1237 : (Jvm.Cond.laysStatic "java/util/HashMap$TreeNode" "$assertionsDisabled" "Z") ∈ lw_tbl := lw_at lw_m6 7 rfl
theorem q1284 : (Jvm.Cond.instanceMethod ({ cls := "java/util/HashMap$TreeNode", name := "putTreeVal", desc := "(Ljava/util/HashMap;[Ljava/util/HashMap$Node;ILjava/lang/Object;Ljava/lang/Object;)Ljava/util/HashMap$TreeNode;" } : Jvm.MethodName)) ∈ lw_all := lw_g (lw_at lw_m6 54 rfl) rfl
theorem q1285 : (Jvm.Cond.selects "java/util/HashMap$TreeNode" ({ cls := "java/util/HashMap$TreeNode", name := "putTreeVal", desc := "(Ljava/util/HashMap;[Ljava/util/HashMap$Node;ILjava/lang/Object;Ljava/lang/Object;)Ljava/util/HashMap$TreeNode;" } : Jvm.MethodName) ({ cls := "java/util/HashMap$TreeNode", name := "putTreeVal", desc := "(Ljava/util/HashMap;[Ljava/util/HashMap$Node;ILjava/lang/Object;Ljava/lang/Object;)Ljava/util/HashMap$TreeNode;" } : Jvm.MethodName)) ∈ lw_all := lw_g (lw_at lw_m6 55 rfl) rfl
theorem q1286 : (Jvm.Cond.code ({ cls := "java/util/HashMap$TreeNode", name := "putTreeVal", desc := "(Ljava/util/HashMap;[Ljava/util/HashMap$Node;ILjava/lang/Object;Ljava/lang/Object;)Ljava/util/HashMap$TreeNode;" } : Jvm.MethodName) prog_46_method_9_code (16 : Nat) (Option.some (Jvm.ClassFile.FieldType.object "java/util/HashMap$TreeNode"))) ∈ lw_all := lw_g (lw_at lw_m6 56 rfl) rfl
theorem q1287 : (Jvm.Cond.methodLink "java/util/HashMap$TreeNode" (67 : Nat) ({ cls := "java/util/HashMap$TreeNode", name := "root", desc := "()Ljava/util/HashMap$TreeNode;" } : Jvm.MethodName)) ∈ lw_all := lw_g (lw_at lw_m6 57 rfl) rfl
theorem q1288 : (Jvm.Cond.instanceMethod ({ cls := "java/util/HashMap$TreeNode", name := "root", desc := "()Ljava/util/HashMap$TreeNode;" } : Jvm.MethodName)) ∈ lw_all := lw_g (lw_at lw_m6 58 rfl) rfl
theorem q1289 : (Jvm.Cond.selects "java/util/HashMap$TreeNode" ({ cls := "java/util/HashMap$TreeNode", name := "root", desc := "()Ljava/util/HashMap$TreeNode;" } : Jvm.MethodName) ({ cls := "java/util/HashMap$TreeNode", name := "root", desc := "()Ljava/util/HashMap$TreeNode;" } : Jvm.MethodName)) ∈ lw_all := lw_g (lw_at lw_m6 59 rfl) rfl
theorem q1290 : (Jvm.Cond.code ({ cls := "java/util/HashMap$TreeNode", name := "root", desc := "()Ljava/util/HashMap$TreeNode;" } : Jvm.MethodName) prog_46_method_2_code (3 : Nat) (Option.some (Jvm.ClassFile.FieldType.object "java/util/HashMap$TreeNode"))) ∈ lw_all := lw_g (lw_at lw_m6 60 rfl) rfl
theorem q1291 : (Jvm.Cond.methodLink "java/util/HashMap$TreeNode" (49 : Nat) ({ cls := "java/lang/Object", name := "equals", desc := "(Ljava/lang/Object;)Z" } : Jvm.MethodName)) ∈ lw_all := lw_g (lw_at lw_m6 61 rfl) rfl
theorem q1292 : (Jvm.Cond.methodLink "java/util/HashMap$TreeNode" (63 : Nat) ({ cls := "java/util/HashMap$TreeNode", name := "find", desc := "(ILjava/lang/Object;Ljava/lang/Class;)Ljava/util/HashMap$TreeNode;" } : Jvm.MethodName)) ∈ lw_all := lw_g (lw_at lw_m6 62 rfl) rfl
theorem q1293 : (Jvm.Cond.instanceMethod ({ cls := "java/util/HashMap$TreeNode", name := "find", desc := "(ILjava/lang/Object;Ljava/lang/Class;)Ljava/util/HashMap$TreeNode;" } : Jvm.MethodName)) ∈ lw_all := lw_g (lw_at lw_m6 63 rfl) rfl
theorem q1294 : (Jvm.Cond.selects "java/util/HashMap$TreeNode" ({ cls := "java/util/HashMap$TreeNode", name := "find", desc := "(ILjava/lang/Object;Ljava/lang/Class;)Ljava/util/HashMap$TreeNode;" } : Jvm.MethodName) ({ cls := "java/util/HashMap$TreeNode", name := "find", desc := "(ILjava/lang/Object;Ljava/lang/Class;)Ljava/util/HashMap$TreeNode;" } : Jvm.MethodName)) ∈ lw_all := lw_g (lw_at lw_m6 64 rfl) rfl
theorem q1295 : (Jvm.Cond.code ({ cls := "java/util/HashMap$TreeNode", name := "find", desc := "(ILjava/lang/Object;Ljava/lang/Class;)Ljava/util/HashMap$TreeNode;" } : Jvm.MethodName) prog_46_method_4_code (11 : Nat) (Option.some (Jvm.ClassFile.FieldType.object "java/util/HashMap$TreeNode"))) ∈ lw_all := lw_g (lw_at lw_m6 65 rfl) rfl
theorem q1296 : (Jvm.Cond.methodLink "java/util/HashMap$TreeNode" (115 : Nat) ({ cls := "java/util/HashMap", name := "newTreeNode", desc := "(ILjava/lang/Object;Ljava/lang/Object;Ljava/util/HashMap$Node;)Ljava/util/HashMap$TreeNode;" } : Jvm.MethodName)) ∈ lw_all := lw_g (lw_at lw_m6 66 rfl) rfl
theorem q1304 : (Jvm.Cond.instantiable "java/util/HashMap$TreeNode" (11 : Nat)) ∈ lw_all := lw_g (lw_at lw_m6 74 rfl) rfl
theorem q1306 : (Jvm.Cond.instanceMethod ({ cls := "java/util/HashMap$TreeNode", name := "<init>", desc := "(ILjava/lang/Object;Ljava/lang/Object;Ljava/util/HashMap$Node;)V" } : Jvm.MethodName)) ∈ lw_all := lw_g (lw_at lw_m6 76 rfl) rfl
theorem q1307 : (Jvm.Cond.code ({ cls := "java/util/HashMap$TreeNode", name := "<init>", desc := "(ILjava/lang/Object;Ljava/lang/Object;Ljava/util/HashMap$Node;)V" } : Jvm.MethodName) prog_46_method_1_code (5 : Nat) (Option.none : Option Jvm.ClassFile.FieldType)) ∈ lw_all := lw_g (lw_at lw_m6 77 rfl) rfl
theorem q1308 : (Jvm.Cond.methodLink "java/util/HashMap$TreeNode" (3 : Nat) ({ cls := "java/util/LinkedHashMap$Entry", name := "<init>", desc := "(ILjava/lang/Object;Ljava/lang/Object;Ljava/util/HashMap$Node;)V" } : Jvm.MethodName)) ∈ lw_all := lw_g (lw_at lw_m6 78 rfl) rfl
theorem q1309 : (Jvm.Cond.fieldLink "java/util/HashMap$TreeNode" (9 : Nat) "java/util/HashMap$TreeNode" "parent" "Ljava/util/HashMap$TreeNode;") ∈ lw_all := lw_g (lw_at lw_m6 79 rfl) rfl
theorem q1310 : (Jvm.Cond.fieldLink "java/util/HashMap$TreeNode" (39 : Nat) "java/util/HashMap$TreeNode" "left" "Ljava/util/HashMap$TreeNode;") ∈ lw_all := lw_g (lw_at lw_m6 80 rfl) rfl
theorem q1311 : (Jvm.Cond.fieldLink "java/util/HashMap$TreeNode" (42 : Nat) "java/util/HashMap$TreeNode" "right" "Ljava/util/HashMap$TreeNode;") ∈ lw_all := lw_g (lw_at lw_m6 81 rfl) rfl
theorem q1312 : (Jvm.Cond.fieldLink "java/util/HashMap$TreeNode" (19 : Nat) "java/util/HashMap$TreeNode" "prev" "Ljava/util/HashMap$TreeNode;") ∈ lw_all := lw_g (lw_at lw_m6 82 rfl) rfl
theorem q1314 : (Jvm.Cond.fieldLink "java/util/HashMap$TreeNode" (93 : Nat) "java/util/HashMap$TreeNode" "red" "Z") ∈ lw_all := lw_g (lw_at lw_m6 84 rfl) rfl
theorem q1315 : (Jvm.Cond.lays "java/util/HashMap$TreeNode" "java/util/HashMap$TreeNode" "parent" "Ljava/util/HashMap$TreeNode;") ∈ lw_all := lw_g (lw_at lw_m6 85 rfl) rfl
theorem q1316 : (Jvm.Cond.soleField "java/util/HashMap$TreeNode" "parent") ∈ lw_all := lw_g (lw_at lw_m6 86 rfl) rfl
theorem q1317 : (Jvm.Cond.lays "java/util/HashMap$TreeNode" "java/util/HashMap$TreeNode" "left" "Ljava/util/HashMap$TreeNode;") ∈ lw_all := lw_g (lw_at lw_m6 87 rfl) rfl
theorem q1318 : (Jvm.Cond.soleField "java/util/HashMap$TreeNode" "left") ∈ lw_all := lw_g (lw_at lw_m6 88 rfl) rfl
theorem q1319 : (Jvm.Cond.lays "java/util/HashMap$TreeNode" "java/util/HashMap$TreeNode" "right" "Ljava/util/HashMap$TreeNode;") ∈ lw_all := lw_g (lw_at lw_m6 89 rfl) rfl
theorem q1320 : (Jvm.Cond.soleField "java/util/HashMap$TreeNode" "right") ∈ lw_all := lw_g (lw_at lw_m6 90 rfl) rfl
theorem q1321 : (Jvm.Cond.lays "java/util/HashMap$TreeNode" "java/util/HashMap$TreeNode" "prev" "Ljava/util/HashMap$TreeNode;") ∈ lw_all := lw_g (lw_at lw_m6 91 rfl) rfl
theorem q1322 : (Jvm.Cond.soleField "java/util/HashMap$TreeNode" "prev") ∈ lw_all := lw_g (lw_at lw_m6 92 rfl) rfl
theorem q1323 : (Jvm.Cond.lays "java/util/HashMap$TreeNode" "java/util/HashMap$TreeNode" "red" "Z") ∈ lw_all := lw_g (lw_at lw_m6 93 rfl) rfl
theorem q1324 : (Jvm.Cond.soleField "java/util/HashMap$TreeNode" "red") ∈ lw_all := lw_g (lw_at lw_m6 94 rfl) rfl
theorem q1325 : (Jvm.Cond.lays "java/util/HashMap$TreeNode" "java/util/LinkedHashMap$Entry" "before" "Ljava/util/LinkedHashMap$Entry;") ∈ lw_all := lw_g (lw_at lw_m6 95 rfl) rfl
theorem q1326 : (Jvm.Cond.lays "java/util/HashMap$TreeNode" "java/util/LinkedHashMap$Entry" "after" "Ljava/util/LinkedHashMap$Entry;") ∈ lw_all := lw_g (lw_at lw_m6 96 rfl) rfl
theorem q1327 : (Jvm.Cond.laysFinal "java/util/HashMap$TreeNode" "java/util/HashMap$Node" "hash" "I") ∈ lw_all := lw_g (lw_at lw_m6 97 rfl) rfl
theorem q1328 : (Jvm.Cond.laysFinal "java/util/HashMap$TreeNode" "java/util/HashMap$Node" "key" "Ljava/lang/Object;") ∈ lw_all := lw_g (lw_at lw_m6 98 rfl) rfl
theorem q1329 : (Jvm.Cond.lays "java/util/HashMap$TreeNode" "java/util/HashMap$Node" "value" "Ljava/lang/Object;") ∈ lw_all := lw_g (lw_at lw_m6 99 rfl) rfl
theorem q1330 : (Jvm.Cond.lays "java/util/HashMap$TreeNode" "java/util/HashMap$Node" "next" "Ljava/util/HashMap$Node;") ∈ lw_all := lw_g (lw_at lw_m6 100 rfl) rfl
theorem q1331 : (Jvm.Cond.superclass "java/util/HashMap$TreeNode" "java/util/LinkedHashMap$Entry") ∈ lw_all := lw_g (lw_at lw_m6 101 rfl) rfl
theorem q1483 : (Jvm.Cond.instanceMethod ({ cls := "java/util/HashMap$TreeNode", name := "getTreeNode", desc := "(ILjava/lang/Object;)Ljava/util/HashMap$TreeNode;" } : Jvm.MethodName)) ∈ lw_all := lw_g (lw_at lw_m7 13 rfl) rfl
theorem q1484 : (Jvm.Cond.selects "java/util/HashMap$TreeNode" ({ cls := "java/util/HashMap$TreeNode", name := "getTreeNode", desc := "(ILjava/lang/Object;)Ljava/util/HashMap$TreeNode;" } : Jvm.MethodName) ({ cls := "java/util/HashMap$TreeNode", name := "getTreeNode", desc := "(ILjava/lang/Object;)Ljava/util/HashMap$TreeNode;" } : Jvm.MethodName)) ∈ lw_all := lw_g (lw_at lw_m7 14 rfl) rfl
theorem q1485 : (Jvm.Cond.code ({ cls := "java/util/HashMap$TreeNode", name := "getTreeNode", desc := "(ILjava/lang/Object;)Ljava/util/HashMap$TreeNode;" } : Jvm.MethodName) prog_46_method_5_code (3 : Nat) (Option.some (Jvm.ClassFile.FieldType.object "java/util/HashMap$TreeNode"))) ∈ lw_all := lw_g (lw_at lw_m7 15 rfl) rfl
theorem q1517 : (Jvm.Cond.instanceMethod ({ cls := "java/util/HashMap$TreeNode", name := "removeTreeNode", desc := "(Ljava/util/HashMap;[Ljava/util/HashMap$Node;Z)V" } : Jvm.MethodName)) ∈ lw_all := lw_g (lw_at lw_m7 47 rfl) rfl
theorem q1518 : (Jvm.Cond.selects "java/util/HashMap$TreeNode" ({ cls := "java/util/HashMap$TreeNode", name := "removeTreeNode", desc := "(Ljava/util/HashMap;[Ljava/util/HashMap$Node;Z)V" } : Jvm.MethodName) ({ cls := "java/util/HashMap$TreeNode", name := "removeTreeNode", desc := "(Ljava/util/HashMap;[Ljava/util/HashMap$Node;Z)V" } : Jvm.MethodName)) ∈ lw_all := lw_g (lw_at lw_m7 48 rfl) rfl
theorem q1519 : (Jvm.Cond.code ({ cls := "java/util/HashMap$TreeNode", name := "removeTreeNode", desc := "(Ljava/util/HashMap;[Ljava/util/HashMap$Node;Z)V" } : Jvm.MethodName) prog_46_method_10_code (21 : Nat) (Option.none : Option Jvm.ClassFile.FieldType)) ∈ lw_all := lw_g (lw_at lw_m7 49 rfl) rfl
theorem q1520 : (Jvm.Cond.methodLink "java/util/HashMap$TreeNode" (123 : Nat) ({ cls := "java/util/HashMap$TreeNode", name := "balanceDeletion", desc := "(Ljava/util/HashMap$TreeNode;Ljava/util/HashMap$TreeNode;)Ljava/util/HashMap$TreeNode;" } : Jvm.MethodName)) ∈ lw_all := lw_g (lw_at lw_m7 50 rfl) rfl
theorem q1521 : (Jvm.Cond.static ({ cls := "java/util/HashMap$TreeNode", name := "balanceDeletion", desc := "(Ljava/util/HashMap$TreeNode;Ljava/util/HashMap$TreeNode;)Ljava/util/HashMap$TreeNode;" } : Jvm.MethodName)) ∈ lw_all := lw_g (lw_at lw_m7 51 rfl) rfl
theorem q1522 : (Jvm.Cond.code ({ cls := "java/util/HashMap$TreeNode", name := "balanceDeletion", desc := "(Ljava/util/HashMap$TreeNode;Ljava/util/HashMap$TreeNode;)Ljava/util/HashMap$TreeNode;" } : Jvm.MethodName) prog_46_method_15_code (7 : Nat) (Option.some (Jvm.ClassFile.FieldType.object "java/util/HashMap$TreeNode"))) ∈ lw_all := lw_g (lw_at lw_m7 52 rfl) rfl
theorem q2408 : (Jvm.Cond.castable "java/util/HashMap$TreeNode" "java/util/LinkedHashMap$Entry") ∈ lw_tbl := lw_at lw_m10 218 rfl
theorem q2425 : (Jvm.Cond.castable "java/util/HashMap$TreeNode" "java/lang/Object") ∈ lw_tbl := lw_at lw_m10 235 rfl
theorem q2441 : (Jvm.Cond.castable "java/util/HashMap$TreeNode" "java/util/HashMap$Node") ∈ lw_tbl := lw_at lw_m11 11 rfl
theorem in_J33 : ∀ w ∈ wsJ330, w ∈ lw_all := lw_in wsJ330 [1327, 1328, 1329, 1330, 1325, 1326, 1315, 1317, 1319, 1321, 1323] (by decide +kernel) (by decide +kernel)
/-! java/util/Objects -/
set_option maxRecDepth 100000
def RJ34 : String := "java/util/Objects"
abbrev cJ34_checkIndex : ByteArray := prog_59_method_17_code
def yJ34_checkIndex : MethodName := ⟨RJ34, "checkIndex", "(II)I"⟩
def dkwJ34_checkIndex_0 : List UInt8 := [26, 27, 1, 184, 0, 105, 172]
abbrev dktJ34_checkIndex_0 : List UInt8 := dkwJ34_checkIndex_0 ++ []
theorem dksJ34_checkIndex_0 : cJ34_checkIndex.data.toList.drop 0 = dktJ34_checkIndex_0 := by decide +kernel
theorem dJ34_checkIndex_0 : decode cJ34_checkIndex 0 = .ok (.iload_n 0, 1) := dk_26 (dk_at dksJ34_checkIndex_0 0 rfl rfl)
theorem dJ34_checkIndex_1 : decode cJ34_checkIndex 1 = .ok (.iload_n 1, 1) := dk_27 (dk_at dksJ34_checkIndex_0 1 rfl rfl)
theorem dJ34_checkIndex_2 : decode cJ34_checkIndex 2 = .ok (.aconst_null, 1) := dk_1 (dk_at dksJ34_checkIndex_0 2 rfl rfl)
theorem dJ34_checkIndex_3 : decode cJ34_checkIndex 3 = .ok (.invokestatic 105, 3) := dk_184 0 105 (dk_at dksJ34_checkIndex_0 3 rfl rfl)
theorem dJ34_checkIndex_6 : decode cJ34_checkIndex 6 = .ok (.ireturn, 1) := dk_172 (dk_at dksJ34_checkIndex_0 6 rfl rfl)
theorem q73 : (Jvm.Cond.initialized "java/util/Objects") ∈ lw_all := lw_g (lw_at lw_m1 43 rfl) rfl
theorem q1399 : (Jvm.Cond.static ({ cls := "java/util/Objects", name := "checkIndex", desc := "(II)I" } : Jvm.MethodName)) ∈ lw_all := lw_g (lw_at lw_m6 169 rfl) rfl
theorem q1400 : (Jvm.Cond.code ({ cls := "java/util/Objects", name := "checkIndex", desc := "(II)I" } : Jvm.MethodName) prog_59_method_17_code (2 : Nat) (Option.some Jvm.ClassFile.FieldType.int)) ∈ lw_all := lw_g (lw_at lw_m6 170 rfl) rfl
theorem q1401 : (Jvm.Cond.methodLink "java/util/Objects" (105 : Nat) ({ cls := "jdk/internal/util/Preconditions", name := "checkIndex", desc := "(IILjava/util/function/BiFunction;)I" } : Jvm.MethodName)) ∈ lw_all := lw_g (lw_at lw_m6 171 rfl) rfl
/-! java/util/HashSet -/
set_option maxRecDepth 100000
def RJ35 : String := "java/util/HashSet"
def TJ35 : u_T := fun k => match k with
  | _ => ("java/util/HashSet", "map", "Ljava/util/HashMap;", false)
def tyJ35 : Nat → FieldType := fun k => match k with
  | _ => .object "java/util/HashMap"
abbrev wsJ350 : List Cond := u_ws RJ35 TJ35 1
theorem nmJ35 : ∀ a, a < 1 → ∀ b, b < 1 → a ≠ b → (TJ35 a).2.1 ≠ (TJ35 b).2.1 := by decide +kernel
theorem tyJ35_ok : ∀ k, k < 1 → parseFieldDescriptor (TJ35 k).2.2.1 = some (tyJ35 k) := by decide +kernel
abbrev cJ35_iterator : ByteArray := prog_47_method_6_code
def yJ35_iterator : MethodName := ⟨RJ35, "iterator", "()Ljava/util/Iterator;"⟩
abbrev cJ35_init : ByteArray := prog_47_method_1_code
def yJ35_init : MethodName := ⟨RJ35, "<init>", "()V"⟩
def dkwJ35_init_0 : List UInt8 := [42, 183, 0, 1, 42, 187, 0, 7, 89, 183, 0, 9, 181, 0, 10, 177]
abbrev dktJ35_init_0 : List UInt8 := dkwJ35_init_0 ++ []
theorem dksJ35_init_0 : cJ35_init.data.toList.drop 0 = dktJ35_init_0 := by decide +kernel
theorem dJ35_init_0 : decode cJ35_init 0 = .ok (.aload_n 0, 1) := dk_42 (dk_at dksJ35_init_0 0 rfl rfl)
theorem dJ35_init_1 : decode cJ35_init 1 = .ok (.invokespecial 1, 3) := dk_183 0 1 (dk_at dksJ35_init_0 1 rfl rfl)
theorem dJ35_init_4 : decode cJ35_init 4 = .ok (.aload_n 0, 1) := dk_42 (dk_at dksJ35_init_0 4 rfl rfl)
theorem dJ35_init_5 : decode cJ35_init 5 = .ok (.new 7, 3) := dk_187 0 7 (dk_at dksJ35_init_0 5 rfl rfl)
theorem dJ35_init_8 : decode cJ35_init 8 = .ok (.dup, 1) := dk_89 (dk_at dksJ35_init_0 8 rfl rfl)
theorem dJ35_init_9 : decode cJ35_init 9 = .ok (.invokespecial 9, 3) := dk_183 0 9 (dk_at dksJ35_init_0 9 rfl rfl)
theorem dJ35_init_12 : decode cJ35_init 12 = .ok (.putfield 10, 3) := dk_181 0 10 (dk_at dksJ35_init_0 12 rfl rfl)
theorem dJ35_init_15 : decode cJ35_init 15 = .ok (.return_, 1) := dk_177 (dk_at dksJ35_init_0 15 rfl rfl)
abbrev cJ35_add : ByteArray := prog_47_method_10_code
def yJ35_add : MethodName := ⟨RJ35, "add", "(Ljava/lang/Object;)Z"⟩
def dkwJ35_add_0 : List UInt8 := [42, 180, 0, 10, 43, 178, 0, 64, 182, 0, 68, 199, 0, 7, 4, 167, 0, 4, 3, 172]
abbrev dktJ35_add_0 : List UInt8 := dkwJ35_add_0 ++ []
theorem dksJ35_add_0 : cJ35_add.data.toList.drop 0 = dktJ35_add_0 := by decide +kernel
theorem dJ35_add_0 : decode cJ35_add 0 = .ok (.aload_n 0, 1) := dk_42 (dk_at dksJ35_add_0 0 rfl rfl)
theorem dJ35_add_1 : decode cJ35_add 1 = .ok (.getfield 10, 3) := dk_180 0 10 (dk_at dksJ35_add_0 1 rfl rfl)
theorem dJ35_add_4 : decode cJ35_add 4 = .ok (.aload_n 1, 1) := dk_43 (dk_at dksJ35_add_0 4 rfl rfl)
theorem dJ35_add_5 : decode cJ35_add 5 = .ok (.getstatic 64, 3) := dk_178 0 64 (dk_at dksJ35_add_0 5 rfl rfl)
theorem dJ35_add_8 : decode cJ35_add 8 = .ok (.invokevirtual 68, 3) := dk_182 0 68 (dk_at dksJ35_add_0 8 rfl rfl)
theorem dJ35_add_11 : decode cJ35_add 11 = .ok (.ifnonnull 7, 3) := dk_199 0 7 (dk_at dksJ35_add_0 11 rfl rfl)
theorem dJ35_add_14 : decode cJ35_add 14 = .ok (.iconst 1, 1) := dk_4 (dk_at dksJ35_add_0 14 rfl rfl)
theorem dJ35_add_15 : decode cJ35_add 15 = .ok (.goto 4, 3) := dk_167 0 4 (dk_at dksJ35_add_0 15 rfl rfl)
theorem dJ35_add_18 : decode cJ35_add 18 = .ok (.iconst 0, 1) := dk_3 (dk_at dksJ35_add_0 18 rfl rfl)
theorem dJ35_add_19 : decode cJ35_add 19 = .ok (.ireturn, 1) := dk_172 (dk_at dksJ35_add_0 19 rfl rfl)
abbrev cJ35_contains : ByteArray := prog_47_method_9_code
def yJ35_contains : MethodName := ⟨RJ35, "contains", "(Ljava/lang/Object;)Z"⟩
def dkwJ35_contains_0 : List UInt8 := [42, 180, 0, 10, 43, 182, 0, 60, 172]
abbrev dktJ35_contains_0 : List UInt8 := dkwJ35_contains_0 ++ []
theorem dksJ35_contains_0 : cJ35_contains.data.toList.drop 0 = dktJ35_contains_0 := by decide +kernel
theorem dJ35_contains_0 : decode cJ35_contains 0 = .ok (.aload_n 0, 1) := dk_42 (dk_at dksJ35_contains_0 0 rfl rfl)
theorem dJ35_contains_1 : decode cJ35_contains 1 = .ok (.getfield 10, 3) := dk_180 0 10 (dk_at dksJ35_contains_0 1 rfl rfl)
theorem dJ35_contains_4 : decode cJ35_contains 4 = .ok (.aload_n 1, 1) := dk_43 (dk_at dksJ35_contains_0 4 rfl rfl)
theorem dJ35_contains_5 : decode cJ35_contains 5 = .ok (.invokevirtual 60, 3) := dk_182 0 60 (dk_at dksJ35_contains_0 5 rfl rfl)
theorem dJ35_contains_8 : decode cJ35_contains 8 = .ok (.ireturn, 1) := dk_172 (dk_at dksJ35_contains_0 8 rfl rfl)
theorem q75 : (Jvm.Cond.initialized "java/util/HashSet") ∈ lw_all := lw_g (lw_at lw_m1 45 rfl) rfl
theorem q555 : (Jvm.Cond.selects "java/util/HashSet" ({ cls := "java/lang/Object", name := "getClass", desc := "()Ljava/lang/Class;" } : Jvm.MethodName) ({ cls := "java/lang/Object", name := "getClass", desc := "()Ljava/lang/Class;" } : Jvm.MethodName)) ∈ lw_all := lw_g (lw_at lw_m3 45 rfl) rfl
theorem q679 : (Jvm.Cond.castable "java/util/HashSet" "java/util/Set") ∈ lw_tbl := lw_at lw_m3 169 rfl
theorem q680 : (Jvm.Cond.selects "java/util/HashSet" ({ cls := "java/util/Set", name := "iterator", desc := "()Ljava/util/Iterator;" } : Jvm.MethodName) ({ cls := "java/util/HashSet", name := "iterator", desc := "()Ljava/util/Iterator;" } : Jvm.MethodName)) ∈ lw_all := lw_g (lw_at lw_m3 170 rfl) rfl
theorem q681 : (Jvm.Cond.unhidden "java/util/HashSet" "iterator" "()Ljava/util/Iterator;") ∈ lw_tbl := lw_at lw_m3 171 rfl
theorem q682 : (Jvm.Cond.instanceMethod ({ cls := "java/util/HashSet", name := "iterator", desc := "()Ljava/util/Iterator;" } : Jvm.MethodName)) ∈ lw_all := lw_g (lw_at lw_m3 172 rfl) rfl
theorem q683 : (Jvm.Cond.publicMethod ({ cls := "java/util/HashSet", name := "iterator", desc := "()Ljava/util/Iterator;" } : Jvm.MethodName)) ∈ lw_tbl := lw_at lw_m3 173 rfl
theorem q684 : (Jvm.Cond.code ({ cls := "java/util/HashSet", name := "iterator", desc := "()Ljava/util/Iterator;" } : Jvm.MethodName) prog_47_method_6_code (1 : Nat) (Option.some (Jvm.ClassFile.FieldType.object "java/util/Iterator"))) ∈ lw_all := lw_g (lw_at lw_m3 174 rfl) rfl
theorem q685 : (Jvm.Cond.methodLink "java/util/HashSet" (45 : Nat) ({ cls := "java/util/HashMap", name := "keySet", desc := "()Ljava/util/Set;" } : Jvm.MethodName)) ∈ lw_all := lw_g (lw_at lw_m3 175 rfl) rfl
theorem q720 : (Jvm.Cond.interfaceEntry "java/util/HashSet" (49 : Nat)) ∈ lw_tbl := lw_at lw_m3 210 rfl
theorem q721 : (Jvm.Cond.methodLink "java/util/HashSet" (49 : Nat) ({ cls := "java/util/Set", name := "iterator", desc := "()Ljava/util/Iterator;" } : Jvm.MethodName)) ∈ lw_all := lw_g (lw_at lw_m3 211 rfl) rfl
theorem q1647 : (Jvm.Cond.instantiable "java/util/HashSet" (1 : Nat)) ∈ lw_all := lw_g (lw_at lw_m7 177 rfl) rfl
theorem q1649 : (Jvm.Cond.instanceMethod ({ cls := "java/util/HashSet", name := "<init>", desc := "()V" } : Jvm.MethodName)) ∈ lw_all := lw_g (lw_at lw_m7 179 rfl) rfl
theorem q1650 : (Jvm.Cond.code ({ cls := "java/util/HashSet", name := "<init>", desc := "()V" } : Jvm.MethodName) prog_47_method_1_code (1 : Nat) (Option.none : Option Jvm.ClassFile.FieldType)) ∈ lw_all := lw_g (lw_at lw_m7 180 rfl) rfl
theorem q1651 : (Jvm.Cond.methodLink "java/util/HashSet" (1 : Nat) ({ cls := "java/util/AbstractSet", name := "<init>", desc := "()V" } : Jvm.MethodName)) ∈ lw_all := lw_g (lw_at lw_m7 181 rfl) rfl
theorem q1652 : (Jvm.Cond.classLink "java/util/HashSet" (7 : Nat) "java/util/HashMap") ∈ lw_all := lw_g (lw_at lw_m7 182 rfl) rfl
theorem q1654 : (Jvm.Cond.methodLink "java/util/HashSet" (9 : Nat) ({ cls := "java/util/HashMap", name := "<init>", desc := "()V" } : Jvm.MethodName)) ∈ lw_all := lw_g (lw_at lw_m7 184 rfl) rfl
theorem q1664 : (Jvm.Cond.fieldLink "java/util/HashSet" (10 : Nat) "java/util/HashSet" "map" "Ljava/util/HashMap;") ∈ lw_all := lw_g (lw_at lw_m7 194 rfl) rfl
theorem q1665 : (Jvm.Cond.lays "java/util/HashSet" "java/util/HashSet" "map" "Ljava/util/HashMap;") ∈ lw_all := lw_g (lw_at lw_m7 195 rfl) rfl
theorem q1666 : (Jvm.Cond.soleField "java/util/HashSet" "map") ∈ lw_all := lw_g (lw_at lw_m7 196 rfl) rfl
theorem q1667 : (Jvm.Cond.superclass "java/util/HashSet" "java/util/AbstractSet") ∈ lw_all := lw_g (lw_at lw_m7 197 rfl) rfl
theorem q1669 : (Jvm.Cond.instanceMethod ({ cls := "java/util/HashSet", name := "add", desc := "(Ljava/lang/Object;)Z" } : Jvm.MethodName)) ∈ lw_all := lw_g (lw_at lw_m7 199 rfl) rfl
theorem q1670 : (Jvm.Cond.selects "java/util/HashSet" ({ cls := "java/util/HashSet", name := "add", desc := "(Ljava/lang/Object;)Z" } : Jvm.MethodName) ({ cls := "java/util/HashSet", name := "add", desc := "(Ljava/lang/Object;)Z" } : Jvm.MethodName)) ∈ lw_all := lw_g (lw_at lw_m7 200 rfl) rfl
theorem q1671 : (Jvm.Cond.code ({ cls := "java/util/HashSet", name := "add", desc := "(Ljava/lang/Object;)Z" } : Jvm.MethodName) prog_47_method_10_code (2 : Nat) (Option.some Jvm.ClassFile.FieldType.boolean)) ∈ lw_all := lw_g (lw_at lw_m7 201 rfl) rfl
theorem q1672 : (Jvm.Cond.fieldLink "java/util/HashSet" (64 : Nat) "java/util/HashSet" "PRESENT" "Ljava/lang/Object;") ∈ lw_all := lw_g (lw_at lw_m7 202 rfl) rfl
theorem q1673 : (Jvm.Cond.laysStatic "java/util/HashSet" "PRESENT" "Ljava/lang/Object;") ∈ lw_tbl := lw_at lw_m7 203 rfl
theorem q1674 : (Jvm.Cond.methodLink "java/util/HashSet" (68 : Nat) ({ cls := "java/util/HashMap", name := "put", desc := "(Ljava/lang/Object;Ljava/lang/Object;)Ljava/lang/Object;" } : Jvm.MethodName)) ∈ lw_all := lw_g (lw_at lw_m7 204 rfl) rfl
theorem q1676 : (Jvm.Cond.instanceMethod ({ cls := "java/util/HashSet", name := "contains", desc := "(Ljava/lang/Object;)Z" } : Jvm.MethodName)) ∈ lw_all := lw_g (lw_at lw_m7 206 rfl) rfl
theorem q1677 : (Jvm.Cond.selects "java/util/HashSet" ({ cls := "java/util/HashSet", name := "contains", desc := "(Ljava/lang/Object;)Z" } : Jvm.MethodName) ({ cls := "java/util/HashSet", name := "contains", desc := "(Ljava/lang/Object;)Z" } : Jvm.MethodName)) ∈ lw_all := lw_g (lw_at lw_m7 207 rfl) rfl
theorem q1678 : (Jvm.Cond.code ({ cls := "java/util/HashSet", name := "contains", desc := "(Ljava/lang/Object;)Z" } : Jvm.MethodName) prog_47_method_9_code (2 : Nat) (Option.some Jvm.ClassFile.FieldType.boolean)) ∈ lw_all := lw_g (lw_at lw_m7 208 rfl) rfl
theorem q1679 : (Jvm.Cond.methodLink "java/util/HashSet" (60 : Nat) ({ cls := "java/util/HashMap", name := "containsKey", desc := "(Ljava/lang/Object;)Z" } : Jvm.MethodName)) ∈ lw_all := lw_g (lw_at lw_m7 209 rfl) rfl
theorem q2427 : (Jvm.Cond.castable "java/util/HashSet" "java/lang/Object") ∈ lw_tbl := lw_at lw_m10 237 rfl
theorem in_J35 : ∀ w ∈ wsJ350, w ∈ lw_all := lw_in wsJ350 [1665] (by decide +kernel) (by decide +kernel)
/-! java/lang/Object -/
set_option maxRecDepth 100000
def RJ36 : String := "java/lang/Object"
abbrev cJ36_init : ByteArray := object_method_1_code
def yJ36_init : MethodName := ⟨RJ36, "<init>", "()V"⟩
theorem dJ36_init_0 : decode cJ36_init 0 = .ok (.return_, 1) := by decide +kernel
abbrev cJ36_equals : ByteArray := object_method_4_code
def yJ36_equals : MethodName := ⟨RJ36, "equals", "(Ljava/lang/Object;)Z"⟩
def dkwJ36_equals_0 : List UInt8 := [42, 43, 166, 0, 7, 4, 167, 0, 4, 3, 172]
abbrev dktJ36_equals_0 : List UInt8 := dkwJ36_equals_0 ++ []
theorem dksJ36_equals_0 : cJ36_equals.data.toList.drop 0 = dktJ36_equals_0 := by decide +kernel
theorem dJ36_equals_0 : decode cJ36_equals 0 = .ok (.aload_n 0, 1) := dk_42 (dk_at dksJ36_equals_0 0 rfl rfl)
theorem dJ36_equals_1 : decode cJ36_equals 1 = .ok (.aload_n 1, 1) := dk_43 (dk_at dksJ36_equals_0 1 rfl rfl)
theorem dJ36_equals_2 : decode cJ36_equals 2 = .ok (.if_acmp .ne 7, 3) := dk_166 0 7 (dk_at dksJ36_equals_0 2 rfl rfl)
theorem dJ36_equals_5 : decode cJ36_equals 5 = .ok (.iconst 1, 1) := dk_4 (dk_at dksJ36_equals_0 5 rfl rfl)
theorem dJ36_equals_6 : decode cJ36_equals 6 = .ok (.goto 4, 3) := dk_167 0 4 (dk_at dksJ36_equals_0 6 rfl rfl)
theorem dJ36_equals_9 : decode cJ36_equals 9 = .ok (.iconst 0, 1) := dk_3 (dk_at dksJ36_equals_0 9 rfl rfl)
theorem dJ36_equals_10 : decode cJ36_equals 10 = .ok (.ireturn, 1) := dk_172 (dk_at dksJ36_equals_0 10 rfl rfl)
theorem q85 : (Jvm.Cond.instanceMethod ({ cls := "java/lang/Object", name := "<init>", desc := "()V" } : Jvm.MethodName)) ∈ lw_all := lw_g (lw_at lw_m1 55 rfl) rfl
theorem q86 : (Jvm.Cond.code ({ cls := "java/lang/Object", name := "<init>", desc := "()V" } : Jvm.MethodName) object_method_1_code (1 : Nat) (Option.none : Option Jvm.ClassFile.FieldType)) ∈ lw_all := lw_g (lw_at lw_m1 56 rfl) rfl
theorem q531 : (Jvm.Cond.instanceMethod ({ cls := "java/lang/Object", name := "getClass", desc := "()Ljava/lang/Class;" } : Jvm.MethodName)) ∈ lw_all := lw_g (lw_at lw_m3 21 rfl) rfl
theorem q532 : (Jvm.Cond.sameMethod "java/lang/Object" "java/lang/Object" "getClass" "()Ljava/lang/Class;") ∈ lw_all := lw_g (lw_at lw_m3 22 rfl) rfl
theorem q563 : (Jvm.Cond.native ({ cls := "java/lang/Object", name := "getClass", desc := "()Ljava/lang/Class;" } : Jvm.MethodName)) ∈ lw_all := lw_g (lw_at lw_m3 53 rfl) rfl
theorem q813 : (Jvm.Cond.declares ({ cls := "java/lang/Object", name := "hashCode", desc := "()I" } : Jvm.MethodName)) ∈ lw_tbl := lw_at lw_m4 63 rfl
theorem q815 : (Jvm.Cond.instanceMethod ({ cls := "java/lang/Object", name := "hashCode", desc := "()I" } : Jvm.MethodName)) ∈ lw_all := lw_g (lw_at lw_m4 65 rfl) rfl
theorem q816 : (Jvm.Cond.sameMethod "java/lang/Object" "java/lang/Object" "hashCode" "()I") ∈ lw_all := lw_g (lw_at lw_m4 66 rfl) rfl
theorem q902 : (Jvm.Cond.native ({ cls := "java/lang/Object", name := "hashCode", desc := "()I" } : Jvm.MethodName)) ∈ lw_all := lw_g (lw_at lw_m4 152 rfl) rfl
theorem q1250 : (Jvm.Cond.declares ({ cls := "java/lang/Object", name := "equals", desc := "(Ljava/lang/Object;)Z" } : Jvm.MethodName)) ∈ lw_tbl := lw_at lw_m6 20 rfl
theorem q1252 : (Jvm.Cond.instanceMethod ({ cls := "java/lang/Object", name := "equals", desc := "(Ljava/lang/Object;)Z" } : Jvm.MethodName)) ∈ lw_all := lw_g (lw_at lw_m6 22 rfl) rfl
theorem q1253 : (Jvm.Cond.sameMethod "java/lang/Object" "java/lang/Object" "equals" "(Ljava/lang/Object;)Z") ∈ lw_all := lw_g (lw_at lw_m6 23 rfl) rfl
theorem q1282 : (Jvm.Cond.code ({ cls := "java/lang/Object", name := "equals", desc := "(Ljava/lang/Object;)Z" } : Jvm.MethodName) object_method_4_code (2 : Nat) (Option.some Jvm.ClassFile.FieldType.boolean)) ∈ lw_all := lw_g (lw_at lw_m6 52 rfl) rfl
theorem q1566 : (Jvm.Cond.native ({ cls := "java/lang/Object", name := "clone", desc := "()Ljava/lang/Object;" } : Jvm.MethodName)) ∈ lw_all := lw_g (lw_at lw_m7 96 rfl) rfl
theorem q1567 : (Jvm.Cond.instanceMethod ({ cls := "java/lang/Object", name := "clone", desc := "()Ljava/lang/Object;" } : Jvm.MethodName)) ∈ lw_all := lw_g (lw_at lw_m7 97 rfl) rfl
theorem q2405 : (Jvm.Cond.initialized "java/lang/Object") ∈ lw_all := lw_g (lw_at lw_m10 215 rfl) rfl
theorem q2409 : (Jvm.Cond.selects "java/lang/Object" ({ cls := "java/lang/Object", name := "equals", desc := "(Ljava/lang/Object;)Z" } : Jvm.MethodName) ({ cls := "java/lang/Object", name := "equals", desc := "(Ljava/lang/Object;)Z" } : Jvm.MethodName)) ∈ lw_all := lw_g (lw_at lw_m10 219 rfl) rfl
theorem q2444 : (Jvm.Cond.declares ({ cls := "java/lang/Object", name := "getClass", desc := "()Ljava/lang/Class;" } : Jvm.MethodName)) ∈ lw_tbl := lw_at lw_m11 14 rfl
/-! java/lang/System$2 -/
set_option maxRecDepth 100000
def RJ37 : String := "java/lang/System$2"
abbrev cJ37_getUTF16Char : ByteArray := prog_28_method_45_code
def yJ37_getUTF16Char : MethodName := ⟨RJ37, "getUTF16Char", "([BI)C"⟩
theorem q545 : (Jvm.Cond.selects "java/lang/System$2" ({ cls := "java/lang/Object", name := "getClass", desc := "()Ljava/lang/Class;" } : Jvm.MethodName) ({ cls := "java/lang/Object", name := "getClass", desc := "()Ljava/lang/Class;" } : Jvm.MethodName)) ∈ lw_all := lw_g (lw_at lw_m3 35 rfl) rfl
theorem q861 : (Jvm.Cond.castable "java/lang/System$2" "jdk/internal/access/JavaLangAccess") ∈ lw_tbl := lw_at lw_m4 111 rfl
theorem q862 : (Jvm.Cond.selects "java/lang/System$2" ({ cls := "jdk/internal/access/JavaLangAccess", name := "getUTF16Char", desc := "([BI)C" } : Jvm.MethodName) ({ cls := "java/lang/System$2", name := "getUTF16Char", desc := "([BI)C" } : Jvm.MethodName)) ∈ lw_all := lw_g (lw_at lw_m4 112 rfl) rfl
theorem q863 : (Jvm.Cond.unhidden "java/lang/System$2" "getUTF16Char" "([BI)C") ∈ lw_tbl := lw_at lw_m4 113 rfl
theorem q864 : (Jvm.Cond.instanceMethod ({ cls := "java/lang/System$2", name := "getUTF16Char", desc := "([BI)C" } : Jvm.MethodName)) ∈ lw_all := lw_g (lw_at lw_m4 114 rfl) rfl
theorem q865 : (Jvm.Cond.publicMethod ({ cls := "java/lang/System$2", name := "getUTF16Char", desc := "([BI)C" } : Jvm.MethodName)) ∈ lw_tbl := lw_at lw_m4 115 rfl
theorem q866 : (Jvm.Cond.code ({ cls := "java/lang/System$2", name := "getUTF16Char", desc := "([BI)C" } : Jvm.MethodName) prog_28_method_45_code (3 : Nat) (Option.some Jvm.ClassFile.FieldType.char)) ∈ lw_all := lw_g (lw_at lw_m4 116 rfl) rfl
theorem q867 : (Jvm.Cond.methodLink "java/lang/System$2" (185 : Nat) ({ cls := "java/lang/StringUTF16", name := "getChar", desc := "([BI)C" } : Jvm.MethodName)) ∈ lw_all := lw_g (lw_at lw_m4 117 rfl) rfl
theorem q900 : (Jvm.Cond.selects "java/lang/System$2" ({ cls := "java/lang/Object", name := "hashCode", desc := "()I" } : Jvm.MethodName) ({ cls := "java/lang/Object", name := "hashCode", desc := "()I" } : Jvm.MethodName)) ∈ lw_all := lw_g (lw_at lw_m4 150 rfl) rfl
theorem q1280 : (Jvm.Cond.selects "java/lang/System$2" ({ cls := "java/lang/Object", name := "equals", desc := "(Ljava/lang/Object;)Z" } : Jvm.MethodName) ({ cls := "java/lang/Object", name := "equals", desc := "(Ljava/lang/Object;)Z" } : Jvm.MethodName)) ∈ lw_all := lw_g (lw_at lw_m6 50 rfl) rfl
theorem q2439 : (Jvm.Cond.castable "java/lang/System$2" "java/lang/Object") ∈ lw_tbl := lw_at lw_m11 9 rfl
theorem q30 : (Jvm.Cond.initialized "TrophyPlatesLaw") ∈ lw_all := lw_g (lw_at lw_m1 0 rfl) rfl
set_option maxRecDepth 100000
theorem q79 : (Jvm.Cond.classLink "TrophyPlatesLaw" (7 : Nat) "TrophyPlates") ∈ lw_all := lw_g (lw_at lw_m1 49 rfl) rfl
theorem q81 : (Jvm.Cond.methodLink "TrophyPlatesLaw" (9 : Nat) ({ cls := "TrophyPlates", name := "<init>", desc := "()V" } : Jvm.MethodName)) ∈ lw_all := lw_g (lw_at lw_m1 51 rfl) rfl
theorem q296 : (Jvm.Cond.methodLink "TrophyPlatesLaw" (13 : Nat) ({ cls := "TrophyPlates", name := "cut", desc := "(II)I" } : Jvm.MethodName)) ∈ lw_all := lw_g (lw_at lw_m2 26 rfl) rfl
theorem q1378 : (Jvm.Cond.methodLink "TrophyPlatesLaw" (18 : Nat) ({ cls := "TrophyPlates", name := "spoil", desc := "(I)I" } : Jvm.MethodName)) ∈ lw_all := lw_g (lw_at lw_m6 148 rfl) rfl
theorem q1412 : (Jvm.Cond.methodLink "TrophyPlatesLaw" (23 : Nat) ({ cls := "TrophyPlates", name := "grind", desc := "(II)I" } : Jvm.MethodName)) ∈ lw_all := lw_g (lw_at lw_m6 182 rfl) rfl
theorem q1431 : (Jvm.Cond.methodLink "TrophyPlatesLaw" (27 : Nat) ({ cls := "TrophyPlates", name := "addShield", desc := "(I)I" } : Jvm.MethodName)) ∈ lw_all := lw_g (lw_at lw_m6 201 rfl) rfl
theorem q1435 : (Jvm.Cond.methodLink "TrophyPlatesLaw" (31 : Nat) ({ cls := "TrophyPlates", name := "takeOff", desc := "(II)I" } : Jvm.MethodName)) ∈ lw_all := lw_g (lw_at lw_m6 205 rfl) rfl
theorem q1533 : (Jvm.Cond.methodLink "TrophyPlatesLaw" (35 : Nat) ({ cls := "TrophyPlates", name := "append", desc := "(I)I" } : Jvm.MethodName)) ∈ lw_all := lw_g (lw_at lw_m7 63 rfl) rfl
theorem q1606 : (Jvm.Cond.methodLink "TrophyPlatesLaw" (39 : Nat) ({ cls := "TrophyPlates", name := "clearText", desc := "()I" } : Jvm.MethodName)) ∈ lw_all := lw_g (lw_at lw_m7 136 rfl) rfl
theorem q1630 : (Jvm.Cond.methodLink "TrophyPlatesLaw" (44 : Nat) ({ cls := "TrophyPlates", name := "order", desc := "(IIIII)I" } : Jvm.MethodName)) ∈ lw_all := lw_g (lw_at lw_m7 160 rfl) rfl
theorem q1789 : (Jvm.Cond.methodLink "TrophyPlatesLaw" (49 : Nat) ({ cls := "TrophyPlates", name := "hurry", desc := "(I)I" } : Jvm.MethodName)) ∈ lw_all := lw_g (lw_at lw_m8 79 rfl) rfl
theorem q1819 : (Jvm.Cond.methodLink "TrophyPlatesLaw" (53 : Nat) ({ cls := "TrophyPlates", name := "cancel", desc := "(I)I" } : Jvm.MethodName)) ∈ lw_all := lw_g (lw_at lw_m8 109 rfl) rfl
theorem q1831 : (Jvm.Cond.methodLink "TrophyPlatesLaw" (57 : Nat) ({ cls := "TrophyPlates", name := "work", desc := "(I)I" } : Jvm.MethodName)) ∈ lw_all := lw_g (lw_at lw_m8 121 rfl) rfl
theorem q2002 : (Jvm.Cond.methodLink "TrophyPlatesLaw" (61 : Nat) ({ cls := "TrophyPlates", name := "slip", desc := "()I" } : Jvm.MethodName)) ∈ lw_all := lw_g (lw_at lw_m9 52 rfl) rfl
theorem q2012 : (Jvm.Cond.methodLink "TrophyPlatesLaw" (65 : Nat) ({ cls := "TrophyPlates", name := "undo", desc := "()I" } : Jvm.MethodName)) ∈ lw_all := lw_g (lw_at lw_m9 62 rfl) rfl
theorem q2020 : (Jvm.Cond.methodLink "TrophyPlatesLaw" (69 : Nat) ({ cls := "TrophyPlates", name := "count", desc := "(I)I" } : Jvm.MethodName)) ∈ lw_all := lw_g (lw_at lw_m9 70 rfl) rfl
theorem q2038 : (Jvm.Cond.methodLink "TrophyPlatesLaw" (73 : Nat) ({ cls := "TrophyPlates", name := "plate", desc := "(II)I" } : Jvm.MethodName)) ∈ lw_all := lw_g (lw_at lw_m9 88 rfl) rfl
theorem q2061 : (Jvm.Cond.methodLink "TrophyPlatesLaw" (77 : Nat) ({ cls := "TrophyPlates", name := "shield", desc := "(II)I" } : Jvm.MethodName)) ∈ lw_all := lw_g (lw_at lw_m9 111 rfl) rfl
theorem q2067 : (Jvm.Cond.methodLink "TrophyPlatesLaw" (81 : Nat) ({ cls := "TrophyPlates", name := "plateFor", desc := "(II)I" } : Jvm.MethodName)) ∈ lw_all := lw_g (lw_at lw_m9 117 rfl) rfl
theorem q2071 : (Jvm.Cond.methodLink "TrophyPlatesLaw" (85 : Nat) ({ cls := "TrophyPlates", name := "orderOf", desc := "(II)I" } : Jvm.MethodName)) ∈ lw_all := lw_g (lw_at lw_m9 121 rfl) rfl
theorem q2078 : (Jvm.Cond.methodLink "TrophyPlatesLaw" (89 : Nat) ({ cls := "TrophyPlates", name := "letter", desc := "(II)I" } : Jvm.MethodName)) ∈ lw_all := lw_g (lw_at lw_m9 128 rfl) rfl
theorem q2083 : (Jvm.Cond.methodLink "TrophyPlatesLaw" (93 : Nat) ({ cls := "TrophyPlates", name := "lengthOf", desc := "(I)I" } : Jvm.MethodName)) ∈ lw_all := lw_g (lw_at lw_m9 133 rfl) rfl
theorem q2088 : (Jvm.Cond.methodLink "TrophyPlatesLaw" (97 : Nat) ({ cls := "TrophyPlates", name := "plateFound", desc := "(III)I" } : Jvm.MethodName)) ∈ lw_all := lw_g (lw_at lw_m9 138 rfl) rfl
theorem q2093 : (Jvm.Cond.methodLink "TrophyPlatesLaw" (102 : Nat) ({ cls := "TrophyPlates", name := "doneIn", desc := "(I)I" } : Jvm.MethodName)) ∈ lw_all := lw_g (lw_at lw_m9 143 rfl) rfl
theorem q2105 : (Jvm.Cond.methodLink "TrophyPlatesLaw" (106 : Nat) ({ cls := "TrophyPlates", name := "moved", desc := "(I)I" } : Jvm.MethodName)) ∈ lw_all := lw_g (lw_at lw_m9 155 rfl) rfl
theorem q2121 : (Jvm.Cond.methodLink "TrophyPlatesLaw" (110 : Nat) ({ cls := "TrophyPlates", name := "largestSize", desc := "(I)I" } : Jvm.MethodName)) ∈ lw_all := lw_g (lw_at lw_m9 171 rfl) rfl
theorem q2125 : (Jvm.Cond.classLink "TrophyPlatesLaw" (10 : Nat) "TrophyPlatesModel") ∈ lw_all := lw_g (lw_at lw_m9 175 rfl) rfl
theorem q2127 : (Jvm.Cond.methodLink "TrophyPlatesLaw" (12 : Nat) ({ cls := "TrophyPlatesModel", name := "<init>", desc := "()V" } : Jvm.MethodName)) ∈ lw_all := lw_g (lw_at lw_m9 177 rfl) rfl
theorem q2171 : (Jvm.Cond.methodLink "TrophyPlatesLaw" (17 : Nat) ({ cls := "TrophyPlatesModel", name := "cut", desc := "(II)I" } : Jvm.MethodName)) ∈ lw_all := lw_g (lw_at lw_m9 221 rfl) rfl
theorem q2185 : (Jvm.Cond.methodLink "TrophyPlatesLaw" (22 : Nat) ({ cls := "TrophyPlatesModel", name := "spoil", desc := "(I)I" } : Jvm.MethodName)) ∈ lw_all := lw_g (lw_at lw_m9 235 rfl) rfl
theorem q2199 : (Jvm.Cond.methodLink "TrophyPlatesLaw" (26 : Nat) ({ cls := "TrophyPlatesModel", name := "grind", desc := "(II)I" } : Jvm.MethodName)) ∈ lw_all := lw_g (lw_at lw_m10 9 rfl) rfl
theorem q2212 : (Jvm.Cond.methodLink "TrophyPlatesLaw" (30 : Nat) ({ cls := "TrophyPlatesModel", name := "addShield", desc := "(I)I" } : Jvm.MethodName)) ∈ lw_all := lw_g (lw_at lw_m10 22 rfl) rfl
theorem q2216 : (Jvm.Cond.methodLink "TrophyPlatesLaw" (34 : Nat) ({ cls := "TrophyPlatesModel", name := "takeOff", desc := "(II)I" } : Jvm.MethodName)) ∈ lw_all := lw_g (lw_at lw_m10 26 rfl) rfl
theorem q2230 : (Jvm.Cond.methodLink "TrophyPlatesLaw" (38 : Nat) ({ cls := "TrophyPlatesModel", name := "append", desc := "(I)I" } : Jvm.MethodName)) ∈ lw_all := lw_g (lw_at lw_m10 40 rfl) rfl
theorem q2234 : (Jvm.Cond.methodLink "TrophyPlatesLaw" (43 : Nat) ({ cls := "TrophyPlatesModel", name := "clearText", desc := "()I" } : Jvm.MethodName)) ∈ lw_all := lw_g (lw_at lw_m10 44 rfl) rfl
theorem q2238 : (Jvm.Cond.methodLink "TrophyPlatesLaw" (48 : Nat) ({ cls := "TrophyPlatesModel", name := "order", desc := "(IIIII)I" } : Jvm.MethodName)) ∈ lw_all := lw_g (lw_at lw_m10 48 rfl) rfl
theorem q2256 : (Jvm.Cond.methodLink "TrophyPlatesLaw" (52 : Nat) ({ cls := "TrophyPlatesModel", name := "hurry", desc := "(I)I" } : Jvm.MethodName)) ∈ lw_all := lw_g (lw_at lw_m10 66 rfl) rfl
theorem q2272 : (Jvm.Cond.methodLink "TrophyPlatesLaw" (56 : Nat) ({ cls := "TrophyPlatesModel", name := "cancel", desc := "(I)I" } : Jvm.MethodName)) ∈ lw_all := lw_g (lw_at lw_m10 82 rfl) rfl
theorem q2279 : (Jvm.Cond.methodLink "TrophyPlatesLaw" (60 : Nat) ({ cls := "TrophyPlatesModel", name := "work", desc := "(I)I" } : Jvm.MethodName)) ∈ lw_all := lw_g (lw_at lw_m10 89 rfl) rfl
theorem q2325 : (Jvm.Cond.methodLink "TrophyPlatesLaw" (64 : Nat) ({ cls := "TrophyPlatesModel", name := "slip", desc := "()I" } : Jvm.MethodName)) ∈ lw_all := lw_g (lw_at lw_m10 135 rfl) rfl
theorem q2329 : (Jvm.Cond.methodLink "TrophyPlatesLaw" (68 : Nat) ({ cls := "TrophyPlatesModel", name := "undo", desc := "()I" } : Jvm.MethodName)) ∈ lw_all := lw_g (lw_at lw_m10 139 rfl) rfl
theorem q2333 : (Jvm.Cond.methodLink "TrophyPlatesLaw" (72 : Nat) ({ cls := "TrophyPlatesModel", name := "count", desc := "(I)I" } : Jvm.MethodName)) ∈ lw_all := lw_g (lw_at lw_m10 143 rfl) rfl
theorem q2337 : (Jvm.Cond.methodLink "TrophyPlatesLaw" (76 : Nat) ({ cls := "TrophyPlatesModel", name := "plate", desc := "(II)I" } : Jvm.MethodName)) ∈ lw_all := lw_g (lw_at lw_m10 147 rfl) rfl
theorem q2341 : (Jvm.Cond.methodLink "TrophyPlatesLaw" (80 : Nat) ({ cls := "TrophyPlatesModel", name := "shield", desc := "(II)I" } : Jvm.MethodName)) ∈ lw_all := lw_g (lw_at lw_m10 151 rfl) rfl
theorem q2345 : (Jvm.Cond.methodLink "TrophyPlatesLaw" (84 : Nat) ({ cls := "TrophyPlatesModel", name := "plateFor", desc := "(II)I" } : Jvm.MethodName)) ∈ lw_all := lw_g (lw_at lw_m10 155 rfl) rfl
theorem q2349 : (Jvm.Cond.methodLink "TrophyPlatesLaw" (88 : Nat) ({ cls := "TrophyPlatesModel", name := "orderOf", desc := "(II)I" } : Jvm.MethodName)) ∈ lw_all := lw_g (lw_at lw_m10 159 rfl) rfl
theorem q2353 : (Jvm.Cond.methodLink "TrophyPlatesLaw" (92 : Nat) ({ cls := "TrophyPlatesModel", name := "letter", desc := "(II)I" } : Jvm.MethodName)) ∈ lw_all := lw_g (lw_at lw_m10 163 rfl) rfl
theorem q2357 : (Jvm.Cond.methodLink "TrophyPlatesLaw" (96 : Nat) ({ cls := "TrophyPlatesModel", name := "lengthOf", desc := "(I)I" } : Jvm.MethodName)) ∈ lw_all := lw_g (lw_at lw_m10 167 rfl) rfl
theorem q2365 : (Jvm.Cond.methodLink "TrophyPlatesLaw" (101 : Nat) ({ cls := "TrophyPlatesModel", name := "plateFound", desc := "(III)I" } : Jvm.MethodName)) ∈ lw_all := lw_g (lw_at lw_m10 175 rfl) rfl
theorem q2369 : (Jvm.Cond.methodLink "TrophyPlatesLaw" (105 : Nat) ({ cls := "TrophyPlatesModel", name := "doneIn", desc := "(I)I" } : Jvm.MethodName)) ∈ lw_all := lw_g (lw_at lw_m10 179 rfl) rfl
theorem q2381 : (Jvm.Cond.methodLink "TrophyPlatesLaw" (109 : Nat) ({ cls := "TrophyPlatesModel", name := "moved", desc := "(I)I" } : Jvm.MethodName)) ∈ lw_all := lw_g (lw_at lw_m10 191 rfl) rfl
theorem q2386 : (Jvm.Cond.methodLink "TrophyPlatesLaw" (113 : Nat) ({ cls := "TrophyPlatesModel", name := "largestSize", desc := "(I)I" } : Jvm.MethodName)) ∈ lw_all := lw_g (lw_at lw_m10 196 rfl) rfl
theorem q1565 : (Jvm.Cond.sameMethod "[B" "java/lang/Object" "clone" "()Ljava/lang/Object;") ∈ lw_all := lw_g (lw_at lw_m7 95 rfl) rfl
set_option maxRecDepth 100000
theorem q1568 : (Jvm.Cond.selects "[B" ({ cls := "[B", name := "clone", desc := "()Ljava/lang/Object;" } : Jvm.MethodName) ({ cls := "java/lang/Object", name := "clone", desc := "()Ljava/lang/Object;" } : Jvm.MethodName)) ∈ lw_all := lw_g (lw_at lw_m7 98 rfl) rfl
theorem q1569 : (Jvm.Cond.castable "[B" "java/lang/Cloneable") ∈ lw_tbl := lw_at lw_m7 99 rfl
theorem q2446 : (Jvm.Cond.castable "[B" "java/lang/Object") ∈ lw_tbl := lw_at lw_m11 16 rfl
theorem q2445 : (Jvm.Cond.castable "[I" "java/lang/Object") ∈ lw_tbl := lw_at lw_m11 15 rfl
set_option maxRecDepth 100000
theorem q2442 : (Jvm.Cond.sameMethod "[Ljava/lang/Object;" "java/lang/Object" "getClass" "()Ljava/lang/Class;") ∈ lw_all := lw_g (lw_at lw_m11 12 rfl) rfl
set_option maxRecDepth 100000
theorem q2443 : (Jvm.Cond.selects "[Ljava/lang/Object;" ({ cls := "java/lang/Object", name := "getClass", desc := "()Ljava/lang/Class;" } : Jvm.MethodName) ({ cls := "java/lang/Object", name := "getClass", desc := "()Ljava/lang/Class;" } : Jvm.MethodName)) ∈ lw_all := lw_g (lw_at lw_m11 13 rfl) rfl
theorem q2447 : (Jvm.Cond.castable "[Ljava/lang/Object;" "java/lang/Object") ∈ lw_tbl := lw_at lw_m11 17 rfl
theorem q2448 : (Jvm.Cond.castable "[Ljava/util/HashMap$Node;" "java/lang/Object") ∈ lw_tbl := lw_at lw_m11 18 rfl
set_option maxRecDepth 100000
theorem q1856 : (Jvm.Cond.interfaceMethod "java/lang/CharSequence" "java/lang/CharSequence" "length" "()I") ∈ lw_tbl := lw_at lw_m8 146 rfl
set_option maxRecDepth 100000
theorem q1857 : (Jvm.Cond.declares ({ cls := "java/lang/CharSequence", name := "length", desc := "()I" } : Jvm.MethodName)) ∈ lw_tbl := lw_at lw_m8 147 rfl
theorem q1873 : (Jvm.Cond.interfaceMethod "java/lang/CharSequence" "java/lang/CharSequence" "charAt" "(I)C") ∈ lw_tbl := lw_at lw_m8 163 rfl
theorem q1874 : (Jvm.Cond.declares ({ cls := "java/lang/CharSequence", name := "charAt", desc := "(I)C" } : Jvm.MethodName)) ∈ lw_tbl := lw_at lw_m8 164 rfl
theorem q1015 : (Jvm.Cond.interfaceMethod "java/lang/Comparable" "java/lang/Comparable" "compareTo" "(Ljava/lang/Object;)I") ∈ lw_tbl := lw_at lw_m5 25 rfl
set_option maxRecDepth 100000
theorem q1016 : (Jvm.Cond.declares ({ cls := "java/lang/Comparable", name := "compareTo", desc := "(Ljava/lang/Object;)I" } : Jvm.MethodName)) ∈ lw_tbl := lw_at lw_m5 26 rfl
theorem q78 : (Jvm.Cond.initialized "java/lang/Integer$IntegerCache") ∈ lw_all := lw_g (lw_at lw_m1 48 rfl) rfl
set_option maxRecDepth 100000
theorem q1958 : (Jvm.Cond.laysStatic "java/lang/Integer$IntegerCache" "high" "I") ∈ lw_tbl := lw_at lw_m9 8 rfl
theorem q1960 : (Jvm.Cond.laysStatic "java/lang/Integer$IntegerCache" "cache" "[Ljava/lang/Integer;") ∈ lw_tbl := lw_at lw_m9 10 rfl
theorem q51 : (Jvm.Cond.initialized "java/lang/System") ∈ lw_all := lw_g (lw_at lw_m1 21 rfl) rfl
set_option maxRecDepth 100000
theorem q574 : (Jvm.Cond.static ({ cls := "java/lang/System", name := "arraycopy", desc := "(Ljava/lang/Object;ILjava/lang/Object;II)V" } : Jvm.MethodName)) ∈ lw_all := lw_g (lw_at lw_m3 64 rfl) rfl
theorem q575 : (Jvm.Cond.native ({ cls := "java/lang/System", name := "arraycopy", desc := "(Ljava/lang/Object;ILjava/lang/Object;II)V" } : Jvm.MethodName)) ∈ lw_all := lw_g (lw_at lw_m3 65 rfl) rfl
theorem q372 : (Jvm.Cond.interfaceMethod "java/util/Iterator" "java/util/Iterator" "hasNext" "()Z") ∈ lw_tbl := lw_at lw_m2 102 rfl
set_option maxRecDepth 100000
theorem q373 : (Jvm.Cond.declares ({ cls := "java/util/Iterator", name := "hasNext", desc := "()Z" } : Jvm.MethodName)) ∈ lw_tbl := lw_at lw_m2 103 rfl
theorem q400 : (Jvm.Cond.interfaceMethod "java/util/Iterator" "java/util/Iterator" "next" "()Ljava/lang/Object;") ∈ lw_tbl := lw_at lw_m2 130 rfl
theorem q401 : (Jvm.Cond.declares ({ cls := "java/util/Iterator", name := "next", desc := "()Ljava/lang/Object;" } : Jvm.MethodName)) ∈ lw_tbl := lw_at lw_m2 131 rfl
theorem q305 : (Jvm.Cond.interfaceMethod "java/util/List" "java/util/List" "size" "()I") ∈ lw_tbl := lw_at lw_m2 35 rfl
set_option maxRecDepth 100000
theorem q306 : (Jvm.Cond.declares ({ cls := "java/util/List", name := "size", desc := "()I" } : Jvm.MethodName)) ∈ lw_tbl := lw_at lw_m2 36 rfl
theorem q344 : (Jvm.Cond.interfaceMethod "java/util/List" "java/util/List" "iterator" "()Ljava/util/Iterator;") ∈ lw_tbl := lw_at lw_m2 74 rfl
theorem q345 : (Jvm.Cond.declares ({ cls := "java/util/List", name := "iterator", desc := "()Ljava/util/Iterator;" } : Jvm.MethodName)) ∈ lw_tbl := lw_at lw_m2 75 rfl
theorem q498 : (Jvm.Cond.interfaceMethod "java/util/List" "java/util/List" "add" "(Ljava/lang/Object;)Z") ∈ lw_tbl := lw_at lw_m2 228 rfl
theorem q499 : (Jvm.Cond.declares ({ cls := "java/util/List", name := "add", desc := "(Ljava/lang/Object;)Z" } : Jvm.MethodName)) ∈ lw_tbl := lw_at lw_m2 229 rfl
theorem q1391 : (Jvm.Cond.interfaceMethod "java/util/List" "java/util/List" "get" "(I)Ljava/lang/Object;") ∈ lw_tbl := lw_at lw_m6 161 rfl
theorem q1392 : (Jvm.Cond.declares ({ cls := "java/util/List", name := "get", desc := "(I)Ljava/lang/Object;" } : Jvm.MethodName)) ∈ lw_tbl := lw_at lw_m6 162 rfl
theorem q1777 : (Jvm.Cond.interfaceMethod "java/util/List" "java/util/List" "add" "(ILjava/lang/Object;)V") ∈ lw_tbl := lw_at lw_m8 67 rfl
theorem q1778 : (Jvm.Cond.declares ({ cls := "java/util/List", name := "add", desc := "(ILjava/lang/Object;)V" } : Jvm.MethodName)) ∈ lw_tbl := lw_at lw_m8 68 rfl
theorem q1803 : (Jvm.Cond.interfaceMethod "java/util/List" "java/util/List" "remove" "(I)Ljava/lang/Object;") ∈ lw_tbl := lw_at lw_m8 93 rfl
theorem q1804 : (Jvm.Cond.declares ({ cls := "java/util/List", name := "remove", desc := "(I)Ljava/lang/Object;" } : Jvm.MethodName)) ∈ lw_tbl := lw_at lw_m8 94 rfl
theorem q1994 : (Jvm.Cond.interfaceMethod "java/util/List" "java/util/List" "remove" "(Ljava/lang/Object;)Z") ∈ lw_tbl := lw_at lw_m9 44 rfl
theorem q1995 : (Jvm.Cond.declares ({ cls := "java/util/List", name := "remove", desc := "(Ljava/lang/Object;)Z" } : Jvm.MethodName)) ∈ lw_tbl := lw_at lw_m9 45 rfl
theorem q2027 : (Jvm.Cond.interfaceMethod "java/util/List" "java/util/List" "indexOf" "(Ljava/lang/Object;)I") ∈ lw_tbl := lw_at lw_m9 77 rfl
theorem q2028 : (Jvm.Cond.declares ({ cls := "java/util/List", name := "indexOf", desc := "(Ljava/lang/Object;)I" } : Jvm.MethodName)) ∈ lw_tbl := lw_at lw_m9 78 rfl
theorem q581 : (Jvm.Cond.interfaceMethod "java/util/Map" "java/util/Map" "entrySet" "()Ljava/util/Set;") ∈ lw_tbl := lw_at lw_m3 71 rfl
set_option maxRecDepth 100000
theorem q582 : (Jvm.Cond.declares ({ cls := "java/util/Map", name := "entrySet", desc := "()Ljava/util/Set;" } : Jvm.MethodName)) ∈ lw_tbl := lw_at lw_m3 72 rfl
theorem q803 : (Jvm.Cond.interfaceMethod "java/util/Map" "java/util/Map" "put" "(Ljava/lang/Object;Ljava/lang/Object;)Ljava/lang/Object;") ∈ lw_tbl := lw_at lw_m4 53 rfl
theorem q804 : (Jvm.Cond.declares ({ cls := "java/util/Map", name := "put", desc := "(Ljava/lang/Object;Ljava/lang/Object;)Ljava/lang/Object;" } : Jvm.MethodName)) ∈ lw_tbl := lw_at lw_m4 54 rfl
theorem q1469 : (Jvm.Cond.interfaceMethod "java/util/Map" "java/util/Map" "get" "(Ljava/lang/Object;)Ljava/lang/Object;") ∈ lw_tbl := lw_at lw_m6 239 rfl
theorem q1470 : (Jvm.Cond.declares ({ cls := "java/util/Map", name := "get", desc := "(Ljava/lang/Object;)Ljava/lang/Object;" } : Jvm.MethodName)) ∈ lw_tbl := lw_at lw_m7 0 rfl
theorem q1503 : (Jvm.Cond.interfaceMethod "java/util/Map" "java/util/Map" "remove" "(Ljava/lang/Object;)Ljava/lang/Object;") ∈ lw_tbl := lw_at lw_m7 33 rfl
theorem q1504 : (Jvm.Cond.declares ({ cls := "java/util/Map", name := "remove", desc := "(Ljava/lang/Object;)Ljava/lang/Object;" } : Jvm.MethodName)) ∈ lw_tbl := lw_at lw_m7 34 rfl
theorem q1979 : (Jvm.Cond.interfaceMethod "java/util/Map" "java/util/Map" "keySet" "()Ljava/util/Set;") ∈ lw_tbl := lw_at lw_m9 29 rfl
theorem q1980 : (Jvm.Cond.declares ({ cls := "java/util/Map", name := "keySet", desc := "()Ljava/util/Set;" } : Jvm.MethodName)) ∈ lw_tbl := lw_at lw_m9 30 rfl
theorem q2113 : (Jvm.Cond.interfaceMethod "java/util/Map" "java/util/Map" "containsKey" "(Ljava/lang/Object;)Z") ∈ lw_tbl := lw_at lw_m9 163 rfl
theorem q2114 : (Jvm.Cond.declares ({ cls := "java/util/Map", name := "containsKey", desc := "(Ljava/lang/Object;)Z" } : Jvm.MethodName)) ∈ lw_tbl := lw_at lw_m9 164 rfl
theorem q774 : (Jvm.Cond.interfaceMethod "java/util/Map$Entry" "java/util/Map$Entry" "getKey" "()Ljava/lang/Object;") ∈ lw_tbl := lw_at lw_m4 24 rfl
set_option maxRecDepth 100000
theorem q775 : (Jvm.Cond.declares ({ cls := "java/util/Map$Entry", name := "getKey", desc := "()Ljava/lang/Object;" } : Jvm.MethodName)) ∈ lw_tbl := lw_at lw_m4 25 rfl
theorem q789 : (Jvm.Cond.interfaceMethod "java/util/Map$Entry" "java/util/Map$Entry" "getValue" "()Ljava/lang/Object;") ∈ lw_tbl := lw_at lw_m4 39 rfl
theorem q790 : (Jvm.Cond.declares ({ cls := "java/util/Map$Entry", name := "getValue", desc := "()Ljava/lang/Object;" } : Jvm.MethodName)) ∈ lw_tbl := lw_at lw_m4 40 rfl
theorem q628 : (Jvm.Cond.interfaceMethod "java/util/Set" "java/util/Set" "iterator" "()Ljava/util/Iterator;") ∈ lw_tbl := lw_at lw_m3 118 rfl
set_option maxRecDepth 100000
theorem q629 : (Jvm.Cond.declares ({ cls := "java/util/Set", name := "iterator", desc := "()Ljava/util/Iterator;" } : Jvm.MethodName)) ∈ lw_tbl := lw_at lw_m3 119 rfl
theorem q859 : (Jvm.Cond.interfaceMethod "jdk/internal/access/JavaLangAccess" "jdk/internal/access/JavaLangAccess" "getUTF16Char" "([BI)C") ∈ lw_tbl := lw_at lw_m4 109 rfl
set_option maxRecDepth 100000
theorem q860 : (Jvm.Cond.declares ({ cls := "jdk/internal/access/JavaLangAccess", name := "getUTF16Char", desc := "([BI)C" } : Jvm.MethodName)) ∈ lw_tbl := lw_at lw_m4 110 rfl
theorem q69 : (Jvm.Cond.initialized "jdk/internal/misc/UnsafeConstants") ∈ lw_all := lw_g (lw_at lw_m1 39 rfl) rfl
set_option maxRecDepth 100000
theorem q1093 : (Jvm.Cond.laysStatic "jdk/internal/misc/UnsafeConstants" "BIG_ENDIAN" "Z") ∈ lw_tbl := lw_at lw_m5 103 rfl
theorem q232 : (Jvm.Cond.arrayClass Jvm.ClassFile.FieldType.int) ∈ lw_all := lw_g (lw_at lw_m1 202 rfl) rfl
set_option maxRecDepth 100000
theorem q285 : (Jvm.Cond.arrayClass Jvm.ClassFile.FieldType.byte) ∈ lw_all := lw_g (lw_at lw_m2 15 rfl) rfl
theorem q568 : (Jvm.Cond.arrayOver (Jvm.ClassFile.FieldType.object "java/lang/Object")) ∈ lw_tbl := lw_at lw_m3 58 rfl
theorem q919 : (Jvm.Cond.arrayOver (Jvm.ClassFile.FieldType.object "java/util/HashMap$Node")) ∈ lw_tbl := lw_at lw_m4 169 rfl
theorem q2449 : (Jvm.Cond.arrayClass Jvm.ClassFile.FieldType.char) ∈ lw_all := lw_g (lw_at lw_m11 19 rfl) rfl
theorem q2450 : (Jvm.Cond.arrayClass Jvm.ClassFile.FieldType.short) ∈ lw_all := lw_g (lw_at lw_m11 20 rfl) rfl
