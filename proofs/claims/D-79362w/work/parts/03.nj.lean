/-! java/util/AbstractCollection -/
set_option maxRecDepth 100000
def RJ0 : String := "java/util/AbstractCollection"
abbrev cJ0_init : ByteArray := prog_58_method_1_code
def yJ0_init : MethodName := ⟨RJ0, "<init>", "()V"⟩
theorem dJ0_init_0 : decode cJ0_init 0 = .ok (.aload_n 0, 1) := by decide +kernel
theorem dJ0_init_1 : decode cJ0_init 1 = .ok (.invokespecial 1, 3) := by decide +kernel
theorem dJ0_init_4 : decode cJ0_init 4 = .ok (.return_, 1) := by decide +kernel
theorem q75 : (Jvm.Cond.initialized "java/util/AbstractCollection") ∈ lw_all := lw_g (lw_at lw_m1 3 rfl) rfl
theorem q155 : (Jvm.Cond.instanceMethod ({ cls := "java/util/AbstractCollection", name := "<init>", desc := "()V" } : Jvm.MethodName)) ∈ lw_all := lw_g (lw_at lw_m1 83 rfl) rfl
theorem q156 : (Jvm.Cond.code ({ cls := "java/util/AbstractCollection", name := "<init>", desc := "()V" } : Jvm.MethodName) prog_58_method_1_code (1 : Nat) (Option.none : Option Jvm.ClassFile.FieldType)) ∈ lw_all := lw_g (lw_at lw_m1 84 rfl) rfl
theorem q157 : (Jvm.Cond.methodLink "java/util/AbstractCollection" (1 : Nat) ({ cls := "java/lang/Object", name := "<init>", desc := "()V" } : Jvm.MethodName)) ∈ lw_all := lw_g (lw_at lw_m1 85 rfl) rfl
/-! java/util/AbstractList -/
set_option maxRecDepth 100000
def RJ1 : String := "java/util/AbstractList"
abbrev cJ1_init : ByteArray := prog_59_method_1_code
def yJ1_init : MethodName := ⟨RJ1, "<init>", "()V"⟩
def dkwJ1_init_0 : List UInt8 := [42, 183, 0, 1, 42, 3, 181, 0, 7, 177]
abbrev dktJ1_init_0 : List UInt8 := dkwJ1_init_0 ++ []
theorem dksJ1_init_0 : cJ1_init.data.toList.drop 0 = dktJ1_init_0 := by decide +kernel
theorem dJ1_init_0 : decode cJ1_init 0 = .ok (.aload_n 0, 1) := dk_42 (dk_at dksJ1_init_0 0 rfl rfl)
theorem dJ1_init_1 : decode cJ1_init 1 = .ok (.invokespecial 1, 3) := dk_183 0 1 (dk_at dksJ1_init_0 1 rfl rfl)
theorem dJ1_init_4 : decode cJ1_init 4 = .ok (.aload_n 0, 1) := dk_42 (dk_at dksJ1_init_0 4 rfl rfl)
theorem dJ1_init_5 : decode cJ1_init 5 = .ok (.iconst 0, 1) := dk_3 (dk_at dksJ1_init_0 5 rfl rfl)
theorem dJ1_init_6 : decode cJ1_init 6 = .ok (.putfield 7, 3) := dk_181 0 7 (dk_at dksJ1_init_0 6 rfl rfl)
theorem dJ1_init_9 : decode cJ1_init 9 = .ok (.return_, 1) := dk_177 (dk_at dksJ1_init_0 9 rfl rfl)
theorem q76 : (Jvm.Cond.initialized "java/util/AbstractList") ∈ lw_all := lw_g (lw_at lw_m1 4 rfl) rfl
theorem q152 : (Jvm.Cond.instanceMethod ({ cls := "java/util/AbstractList", name := "<init>", desc := "()V" } : Jvm.MethodName)) ∈ lw_all := lw_g (lw_at lw_m1 80 rfl) rfl
theorem q153 : (Jvm.Cond.code ({ cls := "java/util/AbstractList", name := "<init>", desc := "()V" } : Jvm.MethodName) prog_59_method_1_code (1 : Nat) (Option.none : Option Jvm.ClassFile.FieldType)) ∈ lw_all := lw_g (lw_at lw_m1 81 rfl) rfl
theorem q154 : (Jvm.Cond.methodLink "java/util/AbstractList" (1 : Nat) ({ cls := "java/util/AbstractCollection", name := "<init>", desc := "()V" } : Jvm.MethodName)) ∈ lw_all := lw_g (lw_at lw_m1 82 rfl) rfl
theorem q164 : (Jvm.Cond.fieldLink "java/util/AbstractList" (7 : Nat) "java/util/AbstractList" "modCount" "I") ∈ lw_all := lw_g (lw_at lw_m1 92 rfl) rfl
theorem q173 : (Jvm.Cond.soleField "java/util/AbstractList" "modCount") ∈ lw_all := lw_g (lw_at lw_m1 101 rfl) rfl
/-! java/util/ArrayList -/
set_option maxRecDepth 100000
def RJ2 : String := "java/util/ArrayList"
def TJ2 : u_T := fun k => match k with
  | 0 => ("java/util/AbstractList", "modCount", "I", false)
  | 1 => ("java/util/ArrayList", "elementData", "[Ljava/lang/Object;", false)
  | _ => ("java/util/ArrayList", "size", "I", false)
def tyJ2 : Nat → FieldType := fun k => match k with
  | 0 => .int
  | 1 => .array (.object "java/lang/Object")
  | _ => .int
abbrev wsJ20 : List Cond := u_ws RJ2 TJ2 3
theorem nmJ2 : ∀ a, a < 3 → ∀ b, b < 3 → a ≠ b → (TJ2 a).2.1 ≠ (TJ2 b).2.1 := by decide +kernel
theorem tyJ2_ok : ∀ k, k < 3 → parseFieldDescriptor (TJ2 k).2.2.1 = some (tyJ2 k) := by decide +kernel
abbrev cJ2_init : ByteArray := prog_63_method_2_code
def yJ2_init : MethodName := ⟨RJ2, "<init>", "()V"⟩
def dkwJ2_init_0 : List UInt8 := [42, 183, 0, 1, 42, 178, 0, 39, 181, 0, 9, 177]
abbrev dktJ2_init_0 : List UInt8 := dkwJ2_init_0 ++ []
theorem dksJ2_init_0 : cJ2_init.data.toList.drop 0 = dktJ2_init_0 := by decide +kernel
theorem dJ2_init_0 : decode cJ2_init 0 = .ok (.aload_n 0, 1) := dk_42 (dk_at dksJ2_init_0 0 rfl rfl)
theorem dJ2_init_1 : decode cJ2_init 1 = .ok (.invokespecial 1, 3) := dk_183 0 1 (dk_at dksJ2_init_0 1 rfl rfl)
theorem dJ2_init_4 : decode cJ2_init 4 = .ok (.aload_n 0, 1) := dk_42 (dk_at dksJ2_init_0 4 rfl rfl)
theorem dJ2_init_5 : decode cJ2_init 5 = .ok (.getstatic 39, 3) := dk_178 0 39 (dk_at dksJ2_init_0 5 rfl rfl)
theorem dJ2_init_8 : decode cJ2_init 8 = .ok (.putfield 9, 3) := dk_181 0 9 (dk_at dksJ2_init_0 8 rfl rfl)
theorem dJ2_init_11 : decode cJ2_init 11 = .ok (.return_, 1) := dk_177 (dk_at dksJ2_init_0 11 rfl rfl)
abbrev cJ2_iterator : ByteArray := prog_63_method_55_code
def yJ2_iterator : MethodName := ⟨RJ2, "iterator", "()Ljava/util/Iterator;"⟩
def dkwJ2_iterator_0 : List UInt8 := [187, 1, 11, 89, 42, 183, 1, 13, 176]
abbrev dktJ2_iterator_0 : List UInt8 := dkwJ2_iterator_0 ++ []
theorem dksJ2_iterator_0 : cJ2_iterator.data.toList.drop 0 = dktJ2_iterator_0 := by decide +kernel
theorem dJ2_iterator_0 : decode cJ2_iterator 0 = .ok (.new 267, 3) := dk_187 1 11 (dk_at dksJ2_iterator_0 0 rfl rfl)
theorem dJ2_iterator_3 : decode cJ2_iterator 3 = .ok (.dup, 1) := dk_89 (dk_at dksJ2_iterator_0 3 rfl rfl)
theorem dJ2_iterator_4 : decode cJ2_iterator 4 = .ok (.aload_n 0, 1) := dk_42 (dk_at dksJ2_iterator_0 4 rfl rfl)
theorem dJ2_iterator_5 : decode cJ2_iterator 5 = .ok (.invokespecial 269, 3) := dk_183 1 13 (dk_at dksJ2_iterator_0 5 rfl rfl)
theorem dJ2_iterator_8 : decode cJ2_iterator 8 = .ok (.areturn, 1) := dk_176 (dk_at dksJ2_iterator_0 8 rfl rfl)
abbrev cJ2_add : ByteArray := prog_63_method_25_code
def yJ2_add : MethodName := ⟨RJ2, "add", "(Ljava/lang/Object;)Z"⟩
def dkwJ2_add_1 : List UInt8 := [172]
abbrev dktJ2_add_1 : List UInt8 := dkwJ2_add_1 ++ []
def dkwJ2_add_0 : List UInt8 := [42, 89, 180, 0, 63, 4, 96, 181, 0, 63, 42, 43, 42, 180, 0, 9, 42, 180, 0, 48, 182, 0, 131, 4]
abbrev dktJ2_add_0 : List UInt8 := dkwJ2_add_0 ++ dktJ2_add_1
theorem dksJ2_add_0 : cJ2_add.data.toList.drop 0 = dktJ2_add_0 := by decide +kernel
theorem dksJ2_add_1 : cJ2_add.data.toList.drop 24 = dktJ2_add_1 := dk_seg dksJ2_add_0 24 rfl rfl
theorem dJ2_add_0 : decode cJ2_add 0 = .ok (.aload_n 0, 1) := dk_42 (dk_at dksJ2_add_0 0 rfl rfl)
theorem dJ2_add_1 : decode cJ2_add 1 = .ok (.dup, 1) := dk_89 (dk_at dksJ2_add_0 1 rfl rfl)
theorem dJ2_add_2 : decode cJ2_add 2 = .ok (.getfield 63, 3) := dk_180 0 63 (dk_at dksJ2_add_0 2 rfl rfl)
theorem dJ2_add_5 : decode cJ2_add 5 = .ok (.iconst 1, 1) := dk_4 (dk_at dksJ2_add_0 5 rfl rfl)
theorem dJ2_add_6 : decode cJ2_add 6 = .ok (.iadd, 1) := dk_96 (dk_at dksJ2_add_0 6 rfl rfl)
theorem dJ2_add_7 : decode cJ2_add 7 = .ok (.putfield 63, 3) := dk_181 0 63 (dk_at dksJ2_add_0 7 rfl rfl)
theorem dJ2_add_10 : decode cJ2_add 10 = .ok (.aload_n 0, 1) := dk_42 (dk_at dksJ2_add_0 10 rfl rfl)
theorem dJ2_add_11 : decode cJ2_add 11 = .ok (.aload_n 1, 1) := dk_43 (dk_at dksJ2_add_0 11 rfl rfl)
theorem dJ2_add_12 : decode cJ2_add 12 = .ok (.aload_n 0, 1) := dk_42 (dk_at dksJ2_add_0 12 rfl rfl)
theorem dJ2_add_13 : decode cJ2_add 13 = .ok (.getfield 9, 3) := dk_180 0 9 (dk_at dksJ2_add_0 13 rfl rfl)
theorem dJ2_add_16 : decode cJ2_add 16 = .ok (.aload_n 0, 1) := dk_42 (dk_at dksJ2_add_0 16 rfl rfl)
theorem dJ2_add_17 : decode cJ2_add 17 = .ok (.getfield 48, 3) := dk_180 0 48 (dk_at dksJ2_add_0 17 rfl rfl)
theorem dJ2_add_20 : decode cJ2_add 20 = .ok (.invokevirtual 131, 3) := dk_182 0 131 (dk_at dksJ2_add_0 20 rfl rfl)
theorem dJ2_add_23 : decode cJ2_add 23 = .ok (.iconst 1, 1) := dk_4 (dk_at dksJ2_add_0 23 rfl rfl)
theorem dJ2_add_24 : decode cJ2_add 24 = .ok (.ireturn, 1) := dk_172 (dk_at dksJ2_add_1 0 rfl rfl)
abbrev cJ2_add_2 : ByteArray := prog_63_method_24_code
def yJ2_add_2 : MethodName := ⟨RJ2, "add", "(Ljava/lang/Object;[Ljava/lang/Object;I)V"⟩
def dkwJ2_add_2_0 : List UInt8 := [29, 44, 190, 160, 0, 8, 42, 182, 0, 129, 77, 44, 29, 43, 83, 42, 29, 4, 96, 181, 0, 48, 177]
abbrev dktJ2_add_2_0 : List UInt8 := dkwJ2_add_2_0 ++ []
theorem dksJ2_add_2_0 : cJ2_add_2.data.toList.drop 0 = dktJ2_add_2_0 := by decide +kernel
theorem dJ2_add_2_0 : decode cJ2_add_2 0 = .ok (.iload_n 3, 1) := dk_29 (dk_at dksJ2_add_2_0 0 rfl rfl)
theorem dJ2_add_2_1 : decode cJ2_add_2 1 = .ok (.aload_n 2, 1) := dk_44 (dk_at dksJ2_add_2_0 1 rfl rfl)
theorem dJ2_add_2_2 : decode cJ2_add_2 2 = .ok (.arraylength, 1) := dk_190 (dk_at dksJ2_add_2_0 2 rfl rfl)
theorem dJ2_add_2_3 : decode cJ2_add_2 3 = .ok (.if_icmp .ne 8, 3) := dk_160 0 8 (dk_at dksJ2_add_2_0 3 rfl rfl)
theorem dJ2_add_2_6 : decode cJ2_add_2 6 = .ok (.aload_n 0, 1) := dk_42 (dk_at dksJ2_add_2_0 6 rfl rfl)
theorem dJ2_add_2_7 : decode cJ2_add_2 7 = .ok (.invokevirtual 129, 3) := dk_182 0 129 (dk_at dksJ2_add_2_0 7 rfl rfl)
theorem dJ2_add_2_10 : decode cJ2_add_2 10 = .ok (.astore_n 2, 1) := dk_77 (dk_at dksJ2_add_2_0 10 rfl rfl)
theorem dJ2_add_2_11 : decode cJ2_add_2 11 = .ok (.aload_n 2, 1) := dk_44 (dk_at dksJ2_add_2_0 11 rfl rfl)
theorem dJ2_add_2_12 : decode cJ2_add_2 12 = .ok (.iload_n 3, 1) := dk_29 (dk_at dksJ2_add_2_0 12 rfl rfl)
theorem dJ2_add_2_13 : decode cJ2_add_2 13 = .ok (.aload_n 1, 1) := dk_43 (dk_at dksJ2_add_2_0 13 rfl rfl)
theorem dJ2_add_2_14 : decode cJ2_add_2 14 = .ok (.aastore, 1) := dk_83 (dk_at dksJ2_add_2_0 14 rfl rfl)
theorem dJ2_add_2_15 : decode cJ2_add_2 15 = .ok (.aload_n 0, 1) := dk_42 (dk_at dksJ2_add_2_0 15 rfl rfl)
theorem dJ2_add_2_16 : decode cJ2_add_2 16 = .ok (.iload_n 3, 1) := dk_29 (dk_at dksJ2_add_2_0 16 rfl rfl)
theorem dJ2_add_2_17 : decode cJ2_add_2 17 = .ok (.iconst 1, 1) := dk_4 (dk_at dksJ2_add_2_0 17 rfl rfl)
theorem dJ2_add_2_18 : decode cJ2_add_2 18 = .ok (.iadd, 1) := dk_96 (dk_at dksJ2_add_2_0 18 rfl rfl)
theorem dJ2_add_2_19 : decode cJ2_add_2 19 = .ok (.putfield 48, 3) := dk_181 0 48 (dk_at dksJ2_add_2_0 19 rfl rfl)
theorem dJ2_add_2_22 : decode cJ2_add_2 22 = .ok (.return_, 1) := dk_177 (dk_at dksJ2_add_2_0 22 rfl rfl)
abbrev cJ2_grow : ByteArray := prog_63_method_7_code
def yJ2_grow : MethodName := ⟨RJ2, "grow", "()[Ljava/lang/Object;"⟩
def dkwJ2_grow_0 : List UInt8 := [42, 42, 180, 0, 48, 4, 96, 182, 0, 69, 176]
abbrev dktJ2_grow_0 : List UInt8 := dkwJ2_grow_0 ++ []
theorem dksJ2_grow_0 : cJ2_grow.data.toList.drop 0 = dktJ2_grow_0 := by decide +kernel
theorem dJ2_grow_0 : decode cJ2_grow 0 = .ok (.aload_n 0, 1) := dk_42 (dk_at dksJ2_grow_0 0 rfl rfl)
theorem dJ2_grow_1 : decode cJ2_grow 1 = .ok (.aload_n 0, 1) := dk_42 (dk_at dksJ2_grow_0 1 rfl rfl)
theorem dJ2_grow_2 : decode cJ2_grow 2 = .ok (.getfield 48, 3) := dk_180 0 48 (dk_at dksJ2_grow_0 2 rfl rfl)
theorem dJ2_grow_5 : decode cJ2_grow 5 = .ok (.iconst 1, 1) := dk_4 (dk_at dksJ2_grow_0 5 rfl rfl)
theorem dJ2_grow_6 : decode cJ2_grow 6 = .ok (.iadd, 1) := dk_96 (dk_at dksJ2_grow_0 6 rfl rfl)
theorem dJ2_grow_7 : decode cJ2_grow 7 = .ok (.invokevirtual 69, 3) := dk_182 0 69 (dk_at dksJ2_grow_0 7 rfl rfl)
theorem dJ2_grow_10 : decode cJ2_grow 10 = .ok (.areturn, 1) := dk_176 (dk_at dksJ2_grow_0 10 rfl rfl)
abbrev cJ2_grow_2 : ByteArray := prog_63_method_6_code
def yJ2_grow_2 : MethodName := ⟨RJ2, "grow", "(I)[Ljava/lang/Object;"⟩
def dkwJ2_grow_2_2 : List UInt8 := [27, 184, 0, 79, 189, 0, 7, 90, 181, 0, 9, 176]
abbrev dktJ2_grow_2_2 : List UInt8 := dkwJ2_grow_2_2 ++ []
def dkwJ2_grow_2_1 : List UInt8 := [28, 4, 122, 184, 0, 73, 62, 42, 42, 180, 0, 9, 29, 184, 0, 66, 90, 181, 0, 9, 176, 42, 16, 10]
abbrev dktJ2_grow_2_1 : List UInt8 := dkwJ2_grow_2_1 ++ dktJ2_grow_2_2
def dkwJ2_grow_2_0 : List UInt8 := [42, 180, 0, 9, 190, 61, 28, 157, 0, 13, 42, 180, 0, 9, 178, 0, 39, 165, 0, 28, 28, 27, 28, 100]
abbrev dktJ2_grow_2_0 : List UInt8 := dkwJ2_grow_2_0 ++ dktJ2_grow_2_1
theorem dksJ2_grow_2_0 : cJ2_grow_2.data.toList.drop 0 = dktJ2_grow_2_0 := by decide +kernel
theorem dksJ2_grow_2_1 : cJ2_grow_2.data.toList.drop 24 = dktJ2_grow_2_1 := dk_seg dksJ2_grow_2_0 24 rfl rfl
theorem dksJ2_grow_2_2 : cJ2_grow_2.data.toList.drop 48 = dktJ2_grow_2_2 := dk_seg dksJ2_grow_2_1 24 rfl rfl
theorem dJ2_grow_2_0 : decode cJ2_grow_2 0 = .ok (.aload_n 0, 1) := dk_42 (dk_at dksJ2_grow_2_0 0 rfl rfl)
theorem dJ2_grow_2_1 : decode cJ2_grow_2 1 = .ok (.getfield 9, 3) := dk_180 0 9 (dk_at dksJ2_grow_2_0 1 rfl rfl)
theorem dJ2_grow_2_4 : decode cJ2_grow_2 4 = .ok (.arraylength, 1) := dk_190 (dk_at dksJ2_grow_2_0 4 rfl rfl)
theorem dJ2_grow_2_5 : decode cJ2_grow_2 5 = .ok (.istore_n 2, 1) := dk_61 (dk_at dksJ2_grow_2_0 5 rfl rfl)
theorem dJ2_grow_2_6 : decode cJ2_grow_2 6 = .ok (.iload_n 2, 1) := dk_28 (dk_at dksJ2_grow_2_0 6 rfl rfl)
theorem dJ2_grow_2_7 : decode cJ2_grow_2 7 = .ok (.ifCond .gt 13, 3) := dk_157 0 13 (dk_at dksJ2_grow_2_0 7 rfl rfl)
theorem dJ2_grow_2_10 : decode cJ2_grow_2 10 = .ok (.aload_n 0, 1) := dk_42 (dk_at dksJ2_grow_2_0 10 rfl rfl)
theorem dJ2_grow_2_11 : decode cJ2_grow_2 11 = .ok (.getfield 9, 3) := dk_180 0 9 (dk_at dksJ2_grow_2_0 11 rfl rfl)
theorem dJ2_grow_2_14 : decode cJ2_grow_2 14 = .ok (.getstatic 39, 3) := dk_178 0 39 (dk_at dksJ2_grow_2_0 14 rfl rfl)
theorem dJ2_grow_2_17 : decode cJ2_grow_2 17 = .ok (.if_acmp .eq 28, 3) := dk_165 0 28 (dk_at dksJ2_grow_2_0 17 rfl rfl)
theorem dJ2_grow_2_20 : decode cJ2_grow_2 20 = .ok (.iload_n 2, 1) := dk_28 (dk_at dksJ2_grow_2_0 20 rfl rfl)
theorem dJ2_grow_2_21 : decode cJ2_grow_2 21 = .ok (.iload_n 1, 1) := dk_27 (dk_at dksJ2_grow_2_0 21 rfl rfl)
theorem dJ2_grow_2_22 : decode cJ2_grow_2 22 = .ok (.iload_n 2, 1) := dk_28 (dk_at dksJ2_grow_2_0 22 rfl rfl)
theorem dJ2_grow_2_23 : decode cJ2_grow_2 23 = .ok (.isub, 1) := dk_100 (dk_at dksJ2_grow_2_0 23 rfl rfl)
theorem dJ2_grow_2_24 : decode cJ2_grow_2 24 = .ok (.iload_n 2, 1) := dk_28 (dk_at dksJ2_grow_2_1 0 rfl rfl)
theorem dJ2_grow_2_25 : decode cJ2_grow_2 25 = .ok (.iconst 1, 1) := dk_4 (dk_at dksJ2_grow_2_1 1 rfl rfl)
theorem dJ2_grow_2_26 : decode cJ2_grow_2 26 = .ok (.ishr, 1) := dk_122 (dk_at dksJ2_grow_2_1 2 rfl rfl)
theorem dJ2_grow_2_27 : decode cJ2_grow_2 27 = .ok (.invokestatic 73, 3) := dk_184 0 73 (dk_at dksJ2_grow_2_1 3 rfl rfl)
theorem dJ2_grow_2_30 : decode cJ2_grow_2 30 = .ok (.istore_n 3, 1) := dk_62 (dk_at dksJ2_grow_2_1 6 rfl rfl)
theorem dJ2_grow_2_31 : decode cJ2_grow_2 31 = .ok (.aload_n 0, 1) := dk_42 (dk_at dksJ2_grow_2_1 7 rfl rfl)
theorem dJ2_grow_2_32 : decode cJ2_grow_2 32 = .ok (.aload_n 0, 1) := dk_42 (dk_at dksJ2_grow_2_1 8 rfl rfl)
theorem dJ2_grow_2_33 : decode cJ2_grow_2 33 = .ok (.getfield 9, 3) := dk_180 0 9 (dk_at dksJ2_grow_2_1 9 rfl rfl)
theorem dJ2_grow_2_36 : decode cJ2_grow_2 36 = .ok (.iload_n 3, 1) := dk_29 (dk_at dksJ2_grow_2_1 12 rfl rfl)
theorem dJ2_grow_2_37 : decode cJ2_grow_2 37 = .ok (.invokestatic 66, 3) := dk_184 0 66 (dk_at dksJ2_grow_2_1 13 rfl rfl)
theorem dJ2_grow_2_40 : decode cJ2_grow_2 40 = .ok (.dup_x1, 1) := dk_90 (dk_at dksJ2_grow_2_1 16 rfl rfl)
theorem dJ2_grow_2_41 : decode cJ2_grow_2 41 = .ok (.putfield 9, 3) := dk_181 0 9 (dk_at dksJ2_grow_2_1 17 rfl rfl)
theorem dJ2_grow_2_44 : decode cJ2_grow_2 44 = .ok (.areturn, 1) := dk_176 (dk_at dksJ2_grow_2_1 20 rfl rfl)
theorem dJ2_grow_2_45 : decode cJ2_grow_2 45 = .ok (.aload_n 0, 1) := dk_42 (dk_at dksJ2_grow_2_1 21 rfl rfl)
theorem dJ2_grow_2_46 : decode cJ2_grow_2 46 = .ok (.bipush 10, 2) := dk_16 10 (dk_at dksJ2_grow_2_1 22 rfl rfl)
theorem dJ2_grow_2_48 : decode cJ2_grow_2 48 = .ok (.iload_n 1, 1) := dk_27 (dk_at dksJ2_grow_2_2 0 rfl rfl)
theorem dJ2_grow_2_49 : decode cJ2_grow_2 49 = .ok (.invokestatic 79, 3) := dk_184 0 79 (dk_at dksJ2_grow_2_2 1 rfl rfl)
theorem dJ2_grow_2_52 : decode cJ2_grow_2 52 = .ok (.anewarray 7, 3) := dk_189 0 7 (dk_at dksJ2_grow_2_2 4 rfl rfl)
theorem dJ2_grow_2_55 : decode cJ2_grow_2 55 = .ok (.dup_x1, 1) := dk_90 (dk_at dksJ2_grow_2_2 7 rfl rfl)
theorem dJ2_grow_2_56 : decode cJ2_grow_2 56 = .ok (.putfield 9, 3) := dk_181 0 9 (dk_at dksJ2_grow_2_2 8 rfl rfl)
theorem dJ2_grow_2_59 : decode cJ2_grow_2 59 = .ok (.areturn, 1) := dk_176 (dk_at dksJ2_grow_2_2 11 rfl rfl)
abbrev cJ2_size : ByteArray := prog_63_method_8_code
def yJ2_size : MethodName := ⟨RJ2, "size", "()I"⟩
theorem dJ2_size_0 : decode cJ2_size 0 = .ok (.aload_n 0, 1) := by decide +kernel
theorem dJ2_size_1 : decode cJ2_size 1 = .ok (.getfield 48, 3) := by decide +kernel
theorem dJ2_size_4 : decode cJ2_size 4 = .ok (.ireturn, 1) := by decide +kernel
abbrev cJ2_isEmpty : ByteArray := prog_63_method_9_code
def yJ2_isEmpty : MethodName := ⟨RJ2, "isEmpty", "()Z"⟩
def dkwJ2_isEmpty_0 : List UInt8 := [42, 180, 0, 48, 154, 0, 7, 4, 167, 0, 4, 3, 172]
abbrev dktJ2_isEmpty_0 : List UInt8 := dkwJ2_isEmpty_0 ++ []
theorem dksJ2_isEmpty_0 : cJ2_isEmpty.data.toList.drop 0 = dktJ2_isEmpty_0 := by decide +kernel
theorem dJ2_isEmpty_0 : decode cJ2_isEmpty 0 = .ok (.aload_n 0, 1) := dk_42 (dk_at dksJ2_isEmpty_0 0 rfl rfl)
theorem dJ2_isEmpty_1 : decode cJ2_isEmpty 1 = .ok (.getfield 48, 3) := dk_180 0 48 (dk_at dksJ2_isEmpty_0 1 rfl rfl)
theorem dJ2_isEmpty_4 : decode cJ2_isEmpty 4 = .ok (.ifCond .ne 7, 3) := dk_154 0 7 (dk_at dksJ2_isEmpty_0 4 rfl rfl)
theorem dJ2_isEmpty_7 : decode cJ2_isEmpty 7 = .ok (.iconst 1, 1) := dk_4 (dk_at dksJ2_isEmpty_0 7 rfl rfl)
theorem dJ2_isEmpty_8 : decode cJ2_isEmpty 8 = .ok (.goto 4, 3) := dk_167 0 4 (dk_at dksJ2_isEmpty_0 8 rfl rfl)
theorem dJ2_isEmpty_11 : decode cJ2_isEmpty 11 = .ok (.iconst 0, 1) := dk_3 (dk_at dksJ2_isEmpty_0 11 rfl rfl)
theorem dJ2_isEmpty_12 : decode cJ2_isEmpty 12 = .ok (.ireturn, 1) := dk_172 (dk_at dksJ2_isEmpty_0 12 rfl rfl)
abbrev cJ2_get : ByteArray := prog_63_method_20_code
def yJ2_get : MethodName := ⟨RJ2, "get", "(I)Ljava/lang/Object;"⟩
def dkwJ2_get_0 : List UInt8 := [27, 42, 180, 0, 48, 184, 0, 118, 87, 42, 27, 182, 0, 123, 176]
abbrev dktJ2_get_0 : List UInt8 := dkwJ2_get_0 ++ []
theorem dksJ2_get_0 : cJ2_get.data.toList.drop 0 = dktJ2_get_0 := by decide +kernel
theorem dJ2_get_0 : decode cJ2_get 0 = .ok (.iload_n 1, 1) := dk_27 (dk_at dksJ2_get_0 0 rfl rfl)
theorem dJ2_get_1 : decode cJ2_get 1 = .ok (.aload_n 0, 1) := dk_42 (dk_at dksJ2_get_0 1 rfl rfl)
theorem dJ2_get_2 : decode cJ2_get 2 = .ok (.getfield 48, 3) := dk_180 0 48 (dk_at dksJ2_get_0 2 rfl rfl)
theorem dJ2_get_5 : decode cJ2_get 5 = .ok (.invokestatic 118, 3) := dk_184 0 118 (dk_at dksJ2_get_0 5 rfl rfl)
theorem dJ2_get_8 : decode cJ2_get 8 = .ok (.pop, 1) := dk_87 (dk_at dksJ2_get_0 8 rfl rfl)
theorem dJ2_get_9 : decode cJ2_get 9 = .ok (.aload_n 0, 1) := dk_42 (dk_at dksJ2_get_0 9 rfl rfl)
theorem dJ2_get_10 : decode cJ2_get 10 = .ok (.iload_n 1, 1) := dk_27 (dk_at dksJ2_get_0 10 rfl rfl)
theorem dJ2_get_11 : decode cJ2_get 11 = .ok (.invokevirtual 123, 3) := dk_182 0 123 (dk_at dksJ2_get_0 11 rfl rfl)
theorem dJ2_get_14 : decode cJ2_get 14 = .ok (.areturn, 1) := dk_176 (dk_at dksJ2_get_0 14 rfl rfl)
abbrev cJ2_elementData : ByteArray := prog_63_method_18_code
def yJ2_elementData : MethodName := ⟨RJ2, "elementData", "(I)Ljava/lang/Object;"⟩
def dkwJ2_elementData_0 : List UInt8 := [42, 180, 0, 9, 27, 50, 176]
abbrev dktJ2_elementData_0 : List UInt8 := dkwJ2_elementData_0 ++ []
theorem dksJ2_elementData_0 : cJ2_elementData.data.toList.drop 0 = dktJ2_elementData_0 := by decide +kernel
theorem dJ2_elementData_0 : decode cJ2_elementData 0 = .ok (.aload_n 0, 1) := dk_42 (dk_at dksJ2_elementData_0 0 rfl rfl)
theorem dJ2_elementData_1 : decode cJ2_elementData 1 = .ok (.getfield 9, 3) := dk_180 0 9 (dk_at dksJ2_elementData_0 1 rfl rfl)
theorem dJ2_elementData_4 : decode cJ2_elementData 4 = .ok (.iload_n 1, 1) := dk_27 (dk_at dksJ2_elementData_0 4 rfl rfl)
theorem dJ2_elementData_5 : decode cJ2_elementData 5 = .ok (.aaload, 1) := dk_50 (dk_at dksJ2_elementData_0 5 rfl rfl)
theorem dJ2_elementData_6 : decode cJ2_elementData 6 = .ok (.areturn, 1) := dk_176 (dk_at dksJ2_elementData_0 6 rfl rfl)
abbrev cJ2_remove : ByteArray := prog_63_method_29_code
def yJ2_remove : MethodName := ⟨RJ2, "remove", "(I)Ljava/lang/Object;"⟩
def dkwJ2_remove_1 : List UInt8 := [45, 176]
abbrev dktJ2_remove_1 : List UInt8 := dkwJ2_remove_1 ++ []
def dkwJ2_remove_0 : List UInt8 := [27, 42, 180, 0, 48, 184, 0, 118, 87, 42, 180, 0, 9, 77, 44, 27, 50, 78, 42, 44, 27, 182, 0, 144]
abbrev dktJ2_remove_0 : List UInt8 := dkwJ2_remove_0 ++ dktJ2_remove_1
theorem dksJ2_remove_0 : cJ2_remove.data.toList.drop 0 = dktJ2_remove_0 := by decide +kernel
theorem dksJ2_remove_1 : cJ2_remove.data.toList.drop 24 = dktJ2_remove_1 := dk_seg dksJ2_remove_0 24 rfl rfl
theorem dJ2_remove_0 : decode cJ2_remove 0 = .ok (.iload_n 1, 1) := dk_27 (dk_at dksJ2_remove_0 0 rfl rfl)
theorem dJ2_remove_1 : decode cJ2_remove 1 = .ok (.aload_n 0, 1) := dk_42 (dk_at dksJ2_remove_0 1 rfl rfl)
theorem dJ2_remove_2 : decode cJ2_remove 2 = .ok (.getfield 48, 3) := dk_180 0 48 (dk_at dksJ2_remove_0 2 rfl rfl)
theorem dJ2_remove_5 : decode cJ2_remove 5 = .ok (.invokestatic 118, 3) := dk_184 0 118 (dk_at dksJ2_remove_0 5 rfl rfl)
theorem dJ2_remove_8 : decode cJ2_remove 8 = .ok (.pop, 1) := dk_87 (dk_at dksJ2_remove_0 8 rfl rfl)
theorem dJ2_remove_9 : decode cJ2_remove 9 = .ok (.aload_n 0, 1) := dk_42 (dk_at dksJ2_remove_0 9 rfl rfl)
theorem dJ2_remove_10 : decode cJ2_remove 10 = .ok (.getfield 9, 3) := dk_180 0 9 (dk_at dksJ2_remove_0 10 rfl rfl)
theorem dJ2_remove_13 : decode cJ2_remove 13 = .ok (.astore_n 2, 1) := dk_77 (dk_at dksJ2_remove_0 13 rfl rfl)
theorem dJ2_remove_14 : decode cJ2_remove 14 = .ok (.aload_n 2, 1) := dk_44 (dk_at dksJ2_remove_0 14 rfl rfl)
theorem dJ2_remove_15 : decode cJ2_remove 15 = .ok (.iload_n 1, 1) := dk_27 (dk_at dksJ2_remove_0 15 rfl rfl)
theorem dJ2_remove_16 : decode cJ2_remove 16 = .ok (.aaload, 1) := dk_50 (dk_at dksJ2_remove_0 16 rfl rfl)
theorem dJ2_remove_17 : decode cJ2_remove 17 = .ok (.astore_n 3, 1) := dk_78 (dk_at dksJ2_remove_0 17 rfl rfl)
theorem dJ2_remove_18 : decode cJ2_remove 18 = .ok (.aload_n 0, 1) := dk_42 (dk_at dksJ2_remove_0 18 rfl rfl)
theorem dJ2_remove_19 : decode cJ2_remove 19 = .ok (.aload_n 2, 1) := dk_44 (dk_at dksJ2_remove_0 19 rfl rfl)
theorem dJ2_remove_20 : decode cJ2_remove 20 = .ok (.iload_n 1, 1) := dk_27 (dk_at dksJ2_remove_0 20 rfl rfl)
theorem dJ2_remove_21 : decode cJ2_remove 21 = .ok (.invokevirtual 144, 3) := dk_182 0 144 (dk_at dksJ2_remove_0 21 rfl rfl)
theorem dJ2_remove_24 : decode cJ2_remove 24 = .ok (.aload_n 3, 1) := dk_45 (dk_at dksJ2_remove_1 0 rfl rfl)
theorem dJ2_remove_25 : decode cJ2_remove 25 = .ok (.areturn, 1) := dk_176 (dk_at dksJ2_remove_1 1 rfl rfl)
abbrev cJ2_fastRemove : ByteArray := prog_63_method_39_code
def yJ2_fastRemove : MethodName := ⟨RJ2, "fastRemove", "([Ljava/lang/Object;I)V"⟩
def dkwJ2_fastRemove_1 : List UInt8 := [4, 96, 43, 28, 29, 28, 100, 184, 0, 112, 43, 42, 29, 90, 181, 0, 48, 1, 83, 177]
abbrev dktJ2_fastRemove_1 : List UInt8 := dkwJ2_fastRemove_1 ++ []
def dkwJ2_fastRemove_0 : List UInt8 := [42, 89, 180, 0, 63, 4, 96, 181, 0, 63, 42, 180, 0, 48, 4, 100, 89, 62, 28, 164, 0, 15, 43, 28]
abbrev dktJ2_fastRemove_0 : List UInt8 := dkwJ2_fastRemove_0 ++ dktJ2_fastRemove_1
theorem dksJ2_fastRemove_0 : cJ2_fastRemove.data.toList.drop 0 = dktJ2_fastRemove_0 := by decide +kernel
theorem dksJ2_fastRemove_1 : cJ2_fastRemove.data.toList.drop 24 = dktJ2_fastRemove_1 := dk_seg dksJ2_fastRemove_0 24 rfl rfl
theorem dJ2_fastRemove_0 : decode cJ2_fastRemove 0 = .ok (.aload_n 0, 1) := dk_42 (dk_at dksJ2_fastRemove_0 0 rfl rfl)
theorem dJ2_fastRemove_1 : decode cJ2_fastRemove 1 = .ok (.dup, 1) := dk_89 (dk_at dksJ2_fastRemove_0 1 rfl rfl)
theorem dJ2_fastRemove_2 : decode cJ2_fastRemove 2 = .ok (.getfield 63, 3) := dk_180 0 63 (dk_at dksJ2_fastRemove_0 2 rfl rfl)
theorem dJ2_fastRemove_5 : decode cJ2_fastRemove 5 = .ok (.iconst 1, 1) := dk_4 (dk_at dksJ2_fastRemove_0 5 rfl rfl)
theorem dJ2_fastRemove_6 : decode cJ2_fastRemove 6 = .ok (.iadd, 1) := dk_96 (dk_at dksJ2_fastRemove_0 6 rfl rfl)
theorem dJ2_fastRemove_7 : decode cJ2_fastRemove 7 = .ok (.putfield 63, 3) := dk_181 0 63 (dk_at dksJ2_fastRemove_0 7 rfl rfl)
theorem dJ2_fastRemove_10 : decode cJ2_fastRemove 10 = .ok (.aload_n 0, 1) := dk_42 (dk_at dksJ2_fastRemove_0 10 rfl rfl)
theorem dJ2_fastRemove_11 : decode cJ2_fastRemove 11 = .ok (.getfield 48, 3) := dk_180 0 48 (dk_at dksJ2_fastRemove_0 11 rfl rfl)
theorem dJ2_fastRemove_14 : decode cJ2_fastRemove 14 = .ok (.iconst 1, 1) := dk_4 (dk_at dksJ2_fastRemove_0 14 rfl rfl)
theorem dJ2_fastRemove_15 : decode cJ2_fastRemove 15 = .ok (.isub, 1) := dk_100 (dk_at dksJ2_fastRemove_0 15 rfl rfl)
theorem dJ2_fastRemove_16 : decode cJ2_fastRemove 16 = .ok (.dup, 1) := dk_89 (dk_at dksJ2_fastRemove_0 16 rfl rfl)
theorem dJ2_fastRemove_17 : decode cJ2_fastRemove 17 = .ok (.istore_n 3, 1) := dk_62 (dk_at dksJ2_fastRemove_0 17 rfl rfl)
theorem dJ2_fastRemove_18 : decode cJ2_fastRemove 18 = .ok (.iload_n 2, 1) := dk_28 (dk_at dksJ2_fastRemove_0 18 rfl rfl)
theorem dJ2_fastRemove_19 : decode cJ2_fastRemove 19 = .ok (.if_icmp .le 15, 3) := dk_164 0 15 (dk_at dksJ2_fastRemove_0 19 rfl rfl)
theorem dJ2_fastRemove_22 : decode cJ2_fastRemove 22 = .ok (.aload_n 1, 1) := dk_43 (dk_at dksJ2_fastRemove_0 22 rfl rfl)
theorem dJ2_fastRemove_23 : decode cJ2_fastRemove 23 = .ok (.iload_n 2, 1) := dk_28 (dk_at dksJ2_fastRemove_0 23 rfl rfl)
theorem dJ2_fastRemove_24 : decode cJ2_fastRemove 24 = .ok (.iconst 1, 1) := dk_4 (dk_at dksJ2_fastRemove_1 0 rfl rfl)
theorem dJ2_fastRemove_25 : decode cJ2_fastRemove 25 = .ok (.iadd, 1) := dk_96 (dk_at dksJ2_fastRemove_1 1 rfl rfl)
theorem dJ2_fastRemove_26 : decode cJ2_fastRemove 26 = .ok (.aload_n 1, 1) := dk_43 (dk_at dksJ2_fastRemove_1 2 rfl rfl)
theorem dJ2_fastRemove_27 : decode cJ2_fastRemove 27 = .ok (.iload_n 2, 1) := dk_28 (dk_at dksJ2_fastRemove_1 3 rfl rfl)
theorem dJ2_fastRemove_28 : decode cJ2_fastRemove 28 = .ok (.iload_n 3, 1) := dk_29 (dk_at dksJ2_fastRemove_1 4 rfl rfl)
theorem dJ2_fastRemove_29 : decode cJ2_fastRemove 29 = .ok (.iload_n 2, 1) := dk_28 (dk_at dksJ2_fastRemove_1 5 rfl rfl)
theorem dJ2_fastRemove_30 : decode cJ2_fastRemove 30 = .ok (.isub, 1) := dk_100 (dk_at dksJ2_fastRemove_1 6 rfl rfl)
theorem dJ2_fastRemove_31 : decode cJ2_fastRemove 31 = .ok (.invokestatic 112, 3) := dk_184 0 112 (dk_at dksJ2_fastRemove_1 7 rfl rfl)
theorem dJ2_fastRemove_34 : decode cJ2_fastRemove 34 = .ok (.aload_n 1, 1) := dk_43 (dk_at dksJ2_fastRemove_1 10 rfl rfl)
theorem dJ2_fastRemove_35 : decode cJ2_fastRemove 35 = .ok (.aload_n 0, 1) := dk_42 (dk_at dksJ2_fastRemove_1 11 rfl rfl)
theorem dJ2_fastRemove_36 : decode cJ2_fastRemove 36 = .ok (.iload_n 3, 1) := dk_29 (dk_at dksJ2_fastRemove_1 12 rfl rfl)
theorem dJ2_fastRemove_37 : decode cJ2_fastRemove 37 = .ok (.dup_x1, 1) := dk_90 (dk_at dksJ2_fastRemove_1 13 rfl rfl)
theorem dJ2_fastRemove_38 : decode cJ2_fastRemove 38 = .ok (.putfield 48, 3) := dk_181 0 48 (dk_at dksJ2_fastRemove_1 14 rfl rfl)
theorem dJ2_fastRemove_41 : decode cJ2_fastRemove 41 = .ok (.aconst_null, 1) := dk_1 (dk_at dksJ2_fastRemove_1 17 rfl rfl)
theorem dJ2_fastRemove_42 : decode cJ2_fastRemove 42 = .ok (.aastore, 1) := dk_83 (dk_at dksJ2_fastRemove_1 18 rfl rfl)
theorem dJ2_fastRemove_43 : decode cJ2_fastRemove 43 = .ok (.return_, 1) := dk_177 (dk_at dksJ2_fastRemove_1 19 rfl rfl)
abbrev cJ2_add_3 : ByteArray := prog_63_method_26_code
def yJ2_add_3 : MethodName := ⟨RJ2, "add", "(ILjava/lang/Object;)V"⟩
def dkwJ2_add_3_2 : List UInt8 := [29, 27, 100, 184, 0, 112, 25, 4, 27, 44, 83, 42, 29, 4, 96, 181, 0, 48, 177]
abbrev dktJ2_add_3_2 : List UInt8 := dkwJ2_add_3_2 ++ []
def dkwJ2_add_3_1 : List UInt8 := [180, 0, 9, 89, 58, 4, 190, 160, 0, 9, 42, 182, 0, 129, 58, 4, 25, 4, 27, 25, 4, 27, 4, 96]
abbrev dktJ2_add_3_1 : List UInt8 := dkwJ2_add_3_1 ++ dktJ2_add_3_2
def dkwJ2_add_3_0 : List UInt8 := [42, 27, 182, 0, 135, 42, 89, 180, 0, 63, 4, 96, 181, 0, 63, 42, 180, 0, 48, 89, 62, 42]
abbrev dktJ2_add_3_0 : List UInt8 := dkwJ2_add_3_0 ++ dktJ2_add_3_1
theorem dksJ2_add_3_0 : cJ2_add_3.data.toList.drop 0 = dktJ2_add_3_0 := by decide +kernel
theorem dksJ2_add_3_1 : cJ2_add_3.data.toList.drop 22 = dktJ2_add_3_1 := dk_seg dksJ2_add_3_0 22 rfl rfl
theorem dksJ2_add_3_2 : cJ2_add_3.data.toList.drop 46 = dktJ2_add_3_2 := dk_seg dksJ2_add_3_1 24 rfl rfl
theorem dJ2_add_3_0 : decode cJ2_add_3 0 = .ok (.aload_n 0, 1) := dk_42 (dk_at dksJ2_add_3_0 0 rfl rfl)
theorem dJ2_add_3_1 : decode cJ2_add_3 1 = .ok (.iload_n 1, 1) := dk_27 (dk_at dksJ2_add_3_0 1 rfl rfl)
theorem dJ2_add_3_2 : decode cJ2_add_3 2 = .ok (.invokevirtual 135, 3) := dk_182 0 135 (dk_at dksJ2_add_3_0 2 rfl rfl)
theorem dJ2_add_3_5 : decode cJ2_add_3 5 = .ok (.aload_n 0, 1) := dk_42 (dk_at dksJ2_add_3_0 5 rfl rfl)
theorem dJ2_add_3_6 : decode cJ2_add_3 6 = .ok (.dup, 1) := dk_89 (dk_at dksJ2_add_3_0 6 rfl rfl)
theorem dJ2_add_3_7 : decode cJ2_add_3 7 = .ok (.getfield 63, 3) := dk_180 0 63 (dk_at dksJ2_add_3_0 7 rfl rfl)
theorem dJ2_add_3_10 : decode cJ2_add_3 10 = .ok (.iconst 1, 1) := dk_4 (dk_at dksJ2_add_3_0 10 rfl rfl)
theorem dJ2_add_3_11 : decode cJ2_add_3 11 = .ok (.iadd, 1) := dk_96 (dk_at dksJ2_add_3_0 11 rfl rfl)
theorem dJ2_add_3_12 : decode cJ2_add_3 12 = .ok (.putfield 63, 3) := dk_181 0 63 (dk_at dksJ2_add_3_0 12 rfl rfl)
theorem dJ2_add_3_15 : decode cJ2_add_3 15 = .ok (.aload_n 0, 1) := dk_42 (dk_at dksJ2_add_3_0 15 rfl rfl)
theorem dJ2_add_3_16 : decode cJ2_add_3 16 = .ok (.getfield 48, 3) := dk_180 0 48 (dk_at dksJ2_add_3_0 16 rfl rfl)
theorem dJ2_add_3_19 : decode cJ2_add_3 19 = .ok (.dup, 1) := dk_89 (dk_at dksJ2_add_3_0 19 rfl rfl)
theorem dJ2_add_3_20 : decode cJ2_add_3 20 = .ok (.istore_n 3, 1) := dk_62 (dk_at dksJ2_add_3_0 20 rfl rfl)
theorem dJ2_add_3_21 : decode cJ2_add_3 21 = .ok (.aload_n 0, 1) := dk_42 (dk_at dksJ2_add_3_0 21 rfl rfl)
theorem dJ2_add_3_22 : decode cJ2_add_3 22 = .ok (.getfield 9, 3) := dk_180 0 9 (dk_at dksJ2_add_3_1 0 rfl rfl)
theorem dJ2_add_3_25 : decode cJ2_add_3 25 = .ok (.dup, 1) := dk_89 (dk_at dksJ2_add_3_1 3 rfl rfl)
theorem dJ2_add_3_26 : decode cJ2_add_3 26 = .ok (.astore 4, 2) := dk_58 4 (dk_at dksJ2_add_3_1 4 rfl rfl)
theorem dJ2_add_3_28 : decode cJ2_add_3 28 = .ok (.arraylength, 1) := dk_190 (dk_at dksJ2_add_3_1 6 rfl rfl)
theorem dJ2_add_3_29 : decode cJ2_add_3 29 = .ok (.if_icmp .ne 9, 3) := dk_160 0 9 (dk_at dksJ2_add_3_1 7 rfl rfl)
theorem dJ2_add_3_32 : decode cJ2_add_3 32 = .ok (.aload_n 0, 1) := dk_42 (dk_at dksJ2_add_3_1 10 rfl rfl)
theorem dJ2_add_3_33 : decode cJ2_add_3 33 = .ok (.invokevirtual 129, 3) := dk_182 0 129 (dk_at dksJ2_add_3_1 11 rfl rfl)
theorem dJ2_add_3_36 : decode cJ2_add_3 36 = .ok (.astore 4, 2) := dk_58 4 (dk_at dksJ2_add_3_1 14 rfl rfl)
theorem dJ2_add_3_38 : decode cJ2_add_3 38 = .ok (.aload 4, 2) := dk_25 4 (dk_at dksJ2_add_3_1 16 rfl rfl)
theorem dJ2_add_3_40 : decode cJ2_add_3 40 = .ok (.iload_n 1, 1) := dk_27 (dk_at dksJ2_add_3_1 18 rfl rfl)
theorem dJ2_add_3_41 : decode cJ2_add_3 41 = .ok (.aload 4, 2) := dk_25 4 (dk_at dksJ2_add_3_1 19 rfl rfl)
theorem dJ2_add_3_43 : decode cJ2_add_3 43 = .ok (.iload_n 1, 1) := dk_27 (dk_at dksJ2_add_3_1 21 rfl rfl)
theorem dJ2_add_3_44 : decode cJ2_add_3 44 = .ok (.iconst 1, 1) := dk_4 (dk_at dksJ2_add_3_1 22 rfl rfl)
theorem dJ2_add_3_45 : decode cJ2_add_3 45 = .ok (.iadd, 1) := dk_96 (dk_at dksJ2_add_3_1 23 rfl rfl)
theorem dJ2_add_3_46 : decode cJ2_add_3 46 = .ok (.iload_n 3, 1) := dk_29 (dk_at dksJ2_add_3_2 0 rfl rfl)
theorem dJ2_add_3_47 : decode cJ2_add_3 47 = .ok (.iload_n 1, 1) := dk_27 (dk_at dksJ2_add_3_2 1 rfl rfl)
theorem dJ2_add_3_48 : decode cJ2_add_3 48 = .ok (.isub, 1) := dk_100 (dk_at dksJ2_add_3_2 2 rfl rfl)
theorem dJ2_add_3_49 : decode cJ2_add_3 49 = .ok (.invokestatic 112, 3) := dk_184 0 112 (dk_at dksJ2_add_3_2 3 rfl rfl)
theorem dJ2_add_3_52 : decode cJ2_add_3 52 = .ok (.aload 4, 2) := dk_25 4 (dk_at dksJ2_add_3_2 6 rfl rfl)
theorem dJ2_add_3_54 : decode cJ2_add_3 54 = .ok (.iload_n 1, 1) := dk_27 (dk_at dksJ2_add_3_2 8 rfl rfl)
theorem dJ2_add_3_55 : decode cJ2_add_3 55 = .ok (.aload_n 2, 1) := dk_44 (dk_at dksJ2_add_3_2 9 rfl rfl)
theorem dJ2_add_3_56 : decode cJ2_add_3 56 = .ok (.aastore, 1) := dk_83 (dk_at dksJ2_add_3_2 10 rfl rfl)
theorem dJ2_add_3_57 : decode cJ2_add_3 57 = .ok (.aload_n 0, 1) := dk_42 (dk_at dksJ2_add_3_2 11 rfl rfl)
theorem dJ2_add_3_58 : decode cJ2_add_3 58 = .ok (.iload_n 3, 1) := dk_29 (dk_at dksJ2_add_3_2 12 rfl rfl)
theorem dJ2_add_3_59 : decode cJ2_add_3 59 = .ok (.iconst 1, 1) := dk_4 (dk_at dksJ2_add_3_2 13 rfl rfl)
theorem dJ2_add_3_60 : decode cJ2_add_3 60 = .ok (.iadd, 1) := dk_96 (dk_at dksJ2_add_3_2 14 rfl rfl)
theorem dJ2_add_3_61 : decode cJ2_add_3 61 = .ok (.putfield 48, 3) := dk_181 0 48 (dk_at dksJ2_add_3_2 15 rfl rfl)
theorem dJ2_add_3_64 : decode cJ2_add_3 64 = .ok (.return_, 1) := dk_177 (dk_at dksJ2_add_3_2 18 rfl rfl)
abbrev cJ2_rangeCheckForAdd : ByteArray := prog_63_method_45_code
def yJ2_rangeCheckForAdd : MethodName := ⟨RJ2, "rangeCheckForAdd", "(I)V"⟩
def dkwJ2_rangeCheckForAdd_1 : List UInt8 := [191, 177]
abbrev dktJ2_rangeCheckForAdd_1 : List UInt8 := dkwJ2_rangeCheckForAdd_1 ++ []
def dkwJ2_rangeCheckForAdd_0 : List UInt8 := [27, 42, 180, 0, 48, 163, 0, 7, 27, 156, 0, 16, 187, 0, 187, 89, 42, 27, 182, 0, 198, 183, 0, 193]
abbrev dktJ2_rangeCheckForAdd_0 : List UInt8 := dkwJ2_rangeCheckForAdd_0 ++ dktJ2_rangeCheckForAdd_1
theorem dksJ2_rangeCheckForAdd_0 : cJ2_rangeCheckForAdd.data.toList.drop 0 = dktJ2_rangeCheckForAdd_0 := by decide +kernel
theorem dksJ2_rangeCheckForAdd_1 : cJ2_rangeCheckForAdd.data.toList.drop 24 = dktJ2_rangeCheckForAdd_1 := dk_seg dksJ2_rangeCheckForAdd_0 24 rfl rfl
theorem dJ2_rangeCheckForAdd_0 : decode cJ2_rangeCheckForAdd 0 = .ok (.iload_n 1, 1) := dk_27 (dk_at dksJ2_rangeCheckForAdd_0 0 rfl rfl)
theorem dJ2_rangeCheckForAdd_1 : decode cJ2_rangeCheckForAdd 1 = .ok (.aload_n 0, 1) := dk_42 (dk_at dksJ2_rangeCheckForAdd_0 1 rfl rfl)
theorem dJ2_rangeCheckForAdd_2 : decode cJ2_rangeCheckForAdd 2 = .ok (.getfield 48, 3) := dk_180 0 48 (dk_at dksJ2_rangeCheckForAdd_0 2 rfl rfl)
theorem dJ2_rangeCheckForAdd_5 : decode cJ2_rangeCheckForAdd 5 = .ok (.if_icmp .gt 7, 3) := dk_163 0 7 (dk_at dksJ2_rangeCheckForAdd_0 5 rfl rfl)
theorem dJ2_rangeCheckForAdd_8 : decode cJ2_rangeCheckForAdd 8 = .ok (.iload_n 1, 1) := dk_27 (dk_at dksJ2_rangeCheckForAdd_0 8 rfl rfl)
theorem dJ2_rangeCheckForAdd_9 : decode cJ2_rangeCheckForAdd 9 = .ok (.ifCond .ge 16, 3) := dk_156 0 16 (dk_at dksJ2_rangeCheckForAdd_0 9 rfl rfl)
theorem dJ2_rangeCheckForAdd_12 : decode cJ2_rangeCheckForAdd 12 = .ok (.new 187, 3) := dk_187 0 187 (dk_at dksJ2_rangeCheckForAdd_0 12 rfl rfl)
theorem dJ2_rangeCheckForAdd_15 : decode cJ2_rangeCheckForAdd 15 = .ok (.dup, 1) := dk_89 (dk_at dksJ2_rangeCheckForAdd_0 15 rfl rfl)
theorem dJ2_rangeCheckForAdd_16 : decode cJ2_rangeCheckForAdd 16 = .ok (.aload_n 0, 1) := dk_42 (dk_at dksJ2_rangeCheckForAdd_0 16 rfl rfl)
theorem dJ2_rangeCheckForAdd_17 : decode cJ2_rangeCheckForAdd 17 = .ok (.iload_n 1, 1) := dk_27 (dk_at dksJ2_rangeCheckForAdd_0 17 rfl rfl)
theorem dJ2_rangeCheckForAdd_18 : decode cJ2_rangeCheckForAdd 18 = .ok (.invokevirtual 198, 3) := dk_182 0 198 (dk_at dksJ2_rangeCheckForAdd_0 18 rfl rfl)
theorem dJ2_rangeCheckForAdd_21 : decode cJ2_rangeCheckForAdd 21 = .ok (.invokespecial 193, 3) := dk_183 0 193 (dk_at dksJ2_rangeCheckForAdd_0 21 rfl rfl)
theorem dJ2_rangeCheckForAdd_24 : decode cJ2_rangeCheckForAdd 24 = .ok (.athrow, 1) := dk_191 (dk_at dksJ2_rangeCheckForAdd_1 0 rfl rfl)
theorem dJ2_rangeCheckForAdd_25 : decode cJ2_rangeCheckForAdd 25 = .ok (.return_, 1) := dk_177 (dk_at dksJ2_rangeCheckForAdd_1 1 rfl rfl)
abbrev cJ2_outOfBoundsMsg : ByteArray := prog_63_method_46_code
def yJ2_outOfBoundsMsg : MethodName := ⟨RJ2, "outOfBoundsMsg", "(I)Ljava/lang/String;"⟩
def dkwJ2_outOfBoundsMsg_1 : List UInt8 := [180, 0, 48, 182, 0, 29, 182, 0, 32, 176]
abbrev dktJ2_outOfBoundsMsg_1 : List UInt8 := dkwJ2_outOfBoundsMsg_1 ++ []
def dkwJ2_outOfBoundsMsg_0 : List UInt8 := [187, 0, 20, 89, 183, 0, 22, 18, 201, 182, 0, 25, 27, 182, 0, 29, 18, 203, 182, 0, 25, 42]
abbrev dktJ2_outOfBoundsMsg_0 : List UInt8 := dkwJ2_outOfBoundsMsg_0 ++ dktJ2_outOfBoundsMsg_1
theorem dksJ2_outOfBoundsMsg_0 : cJ2_outOfBoundsMsg.data.toList.drop 0 = dktJ2_outOfBoundsMsg_0 := by decide +kernel
theorem dksJ2_outOfBoundsMsg_1 : cJ2_outOfBoundsMsg.data.toList.drop 22 = dktJ2_outOfBoundsMsg_1 := dk_seg dksJ2_outOfBoundsMsg_0 22 rfl rfl
theorem dJ2_outOfBoundsMsg_0 : decode cJ2_outOfBoundsMsg 0 = .ok (.new 20, 3) := dk_187 0 20 (dk_at dksJ2_outOfBoundsMsg_0 0 rfl rfl)
theorem dJ2_outOfBoundsMsg_3 : decode cJ2_outOfBoundsMsg 3 = .ok (.dup, 1) := dk_89 (dk_at dksJ2_outOfBoundsMsg_0 3 rfl rfl)
theorem dJ2_outOfBoundsMsg_4 : decode cJ2_outOfBoundsMsg 4 = .ok (.invokespecial 22, 3) := dk_183 0 22 (dk_at dksJ2_outOfBoundsMsg_0 4 rfl rfl)
theorem dJ2_outOfBoundsMsg_7 : decode cJ2_outOfBoundsMsg 7 = .ok (.ldc 201, 2) := dk_18 201 (dk_at dksJ2_outOfBoundsMsg_0 7 rfl rfl)
theorem dJ2_outOfBoundsMsg_9 : decode cJ2_outOfBoundsMsg 9 = .ok (.invokevirtual 25, 3) := dk_182 0 25 (dk_at dksJ2_outOfBoundsMsg_0 9 rfl rfl)
theorem dJ2_outOfBoundsMsg_12 : decode cJ2_outOfBoundsMsg 12 = .ok (.iload_n 1, 1) := dk_27 (dk_at dksJ2_outOfBoundsMsg_0 12 rfl rfl)
theorem dJ2_outOfBoundsMsg_13 : decode cJ2_outOfBoundsMsg 13 = .ok (.invokevirtual 29, 3) := dk_182 0 29 (dk_at dksJ2_outOfBoundsMsg_0 13 rfl rfl)
theorem dJ2_outOfBoundsMsg_16 : decode cJ2_outOfBoundsMsg 16 = .ok (.ldc 203, 2) := dk_18 203 (dk_at dksJ2_outOfBoundsMsg_0 16 rfl rfl)
theorem dJ2_outOfBoundsMsg_18 : decode cJ2_outOfBoundsMsg 18 = .ok (.invokevirtual 25, 3) := dk_182 0 25 (dk_at dksJ2_outOfBoundsMsg_0 18 rfl rfl)
theorem dJ2_outOfBoundsMsg_21 : decode cJ2_outOfBoundsMsg 21 = .ok (.aload_n 0, 1) := dk_42 (dk_at dksJ2_outOfBoundsMsg_0 21 rfl rfl)
theorem dJ2_outOfBoundsMsg_22 : decode cJ2_outOfBoundsMsg 22 = .ok (.getfield 48, 3) := dk_180 0 48 (dk_at dksJ2_outOfBoundsMsg_1 0 rfl rfl)
theorem dJ2_outOfBoundsMsg_25 : decode cJ2_outOfBoundsMsg 25 = .ok (.invokevirtual 29, 3) := dk_182 0 29 (dk_at dksJ2_outOfBoundsMsg_1 3 rfl rfl)
theorem dJ2_outOfBoundsMsg_28 : decode cJ2_outOfBoundsMsg 28 = .ok (.invokevirtual 32, 3) := dk_182 0 32 (dk_at dksJ2_outOfBoundsMsg_1 6 rfl rfl)
theorem dJ2_outOfBoundsMsg_31 : decode cJ2_outOfBoundsMsg 31 = .ok (.areturn, 1) := dk_176 (dk_at dksJ2_outOfBoundsMsg_1 9 rfl rfl)
theorem q77 : (Jvm.Cond.initialized "java/util/ArrayList") ∈ lw_all := lw_g (lw_at lw_m1 5 rfl) rfl
theorem q147 : (Jvm.Cond.instantiable "java/util/ArrayList" (3 : Nat)) ∈ lw_all := lw_g (lw_at lw_m1 75 rfl) rfl
theorem q149 : (Jvm.Cond.instanceMethod ({ cls := "java/util/ArrayList", name := "<init>", desc := "()V" } : Jvm.MethodName)) ∈ lw_all := lw_g (lw_at lw_m1 77 rfl) rfl
theorem q150 : (Jvm.Cond.code ({ cls := "java/util/ArrayList", name := "<init>", desc := "()V" } : Jvm.MethodName) prog_63_method_2_code (1 : Nat) (Option.none : Option Jvm.ClassFile.FieldType)) ∈ lw_all := lw_g (lw_at lw_m1 78 rfl) rfl
theorem q151 : (Jvm.Cond.methodLink "java/util/ArrayList" (1 : Nat) ({ cls := "java/util/AbstractList", name := "<init>", desc := "()V" } : Jvm.MethodName)) ∈ lw_all := lw_g (lw_at lw_m1 79 rfl) rfl
theorem q158 : (Jvm.Cond.fieldLink "java/util/ArrayList" (39 : Nat) "java/util/ArrayList" "DEFAULTCAPACITY_EMPTY_ELEMENTDATA" "[Ljava/lang/Object;") ∈ lw_all := lw_g (lw_at lw_m1 86 rfl) rfl
theorem q159 : (Jvm.Cond.laysStatic "java/util/ArrayList" "DEFAULTCAPACITY_EMPTY_ELEMENTDATA" "[Ljava/lang/Object;") ∈ lw_tbl := lw_at lw_m1 87 rfl
theorem q160 : (Jvm.Cond.fieldLink "java/util/ArrayList" (9 : Nat) "java/util/ArrayList" "elementData" "[Ljava/lang/Object;") ∈ lw_all := lw_g (lw_at lw_m1 88 rfl) rfl
theorem q163 : (Jvm.Cond.fieldLink "java/util/ArrayList" (48 : Nat) "java/util/ArrayList" "size" "I") ∈ lw_all := lw_g (lw_at lw_m1 91 rfl) rfl
theorem q166 : (Jvm.Cond.sameField "java/util/ArrayList" "java/util/AbstractList" "modCount" "I") ∈ lw_all := lw_g (lw_at lw_m1 94 rfl) rfl
theorem q167 : (Jvm.Cond.fieldLink "java/util/ArrayList" (63 : Nat) "java/util/ArrayList" "modCount" "I") ∈ lw_all := lw_g (lw_at lw_m1 95 rfl) rfl
theorem q168 : (Jvm.Cond.lays "java/util/ArrayList" "java/util/ArrayList" "elementData" "[Ljava/lang/Object;") ∈ lw_all := lw_g (lw_at lw_m1 96 rfl) rfl
theorem q169 : (Jvm.Cond.soleField "java/util/ArrayList" "elementData") ∈ lw_all := lw_g (lw_at lw_m1 97 rfl) rfl
theorem q170 : (Jvm.Cond.lays "java/util/ArrayList" "java/util/ArrayList" "size" "I") ∈ lw_all := lw_g (lw_at lw_m1 98 rfl) rfl
theorem q171 : (Jvm.Cond.soleField "java/util/ArrayList" "size") ∈ lw_all := lw_g (lw_at lw_m1 99 rfl) rfl
theorem q172 : (Jvm.Cond.lays "java/util/ArrayList" "java/util/AbstractList" "modCount" "I") ∈ lw_all := lw_g (lw_at lw_m1 100 rfl) rfl
theorem q174 : (Jvm.Cond.superclass "java/util/ArrayList" "java/util/AbstractList") ∈ lw_all := lw_g (lw_at lw_m1 102 rfl) rfl
theorem q301 : (Jvm.Cond.castable "java/util/ArrayList" "java/util/List") ∈ lw_tbl := lw_at lw_m1 229 rfl
theorem q302 : (Jvm.Cond.selects "java/util/ArrayList" ({ cls := "java/util/List", name := "iterator", desc := "()Ljava/util/Iterator;" } : Jvm.MethodName) ({ cls := "java/util/ArrayList", name := "iterator", desc := "()Ljava/util/Iterator;" } : Jvm.MethodName)) ∈ lw_all := lw_g (lw_at lw_m1 230 rfl) rfl
theorem q303 : (Jvm.Cond.unhidden "java/util/ArrayList" "iterator" "()Ljava/util/Iterator;") ∈ lw_tbl := lw_at lw_m1 231 rfl
theorem q304 : (Jvm.Cond.instanceMethod ({ cls := "java/util/ArrayList", name := "iterator", desc := "()Ljava/util/Iterator;" } : Jvm.MethodName)) ∈ lw_all := lw_g (lw_at lw_m1 232 rfl) rfl
theorem q305 : (Jvm.Cond.publicMethod ({ cls := "java/util/ArrayList", name := "iterator", desc := "()Ljava/util/Iterator;" } : Jvm.MethodName)) ∈ lw_tbl := lw_at lw_m1 233 rfl
theorem q306 : (Jvm.Cond.code ({ cls := "java/util/ArrayList", name := "iterator", desc := "()Ljava/util/Iterator;" } : Jvm.MethodName) prog_63_method_55_code (1 : Nat) (Option.some (Jvm.ClassFile.FieldType.object "java/util/Iterator"))) ∈ lw_all := lw_g (lw_at lw_m1 234 rfl) rfl
theorem q307 : (Jvm.Cond.classLink "java/util/ArrayList" (267 : Nat) "java/util/ArrayList$Itr") ∈ lw_all := lw_g (lw_at lw_m1 235 rfl) rfl
theorem q309 : (Jvm.Cond.methodLink "java/util/ArrayList" (269 : Nat) ({ cls := "java/util/ArrayList$Itr", name := "<init>", desc := "(Ljava/util/ArrayList;)V" } : Jvm.MethodName)) ∈ lw_all := lw_g (lw_at lw_m1 237 rfl) rfl
theorem q458 : (Jvm.Cond.selects "java/util/ArrayList" ({ cls := "java/util/List", name := "add", desc := "(Ljava/lang/Object;)Z" } : Jvm.MethodName) ({ cls := "java/util/ArrayList", name := "add", desc := "(Ljava/lang/Object;)Z" } : Jvm.MethodName)) ∈ lw_all := lw_g (lw_at lw_m2 146 rfl) rfl
theorem q459 : (Jvm.Cond.unhidden "java/util/ArrayList" "add" "(Ljava/lang/Object;)Z") ∈ lw_tbl := lw_at lw_m2 147 rfl
theorem q460 : (Jvm.Cond.instanceMethod ({ cls := "java/util/ArrayList", name := "add", desc := "(Ljava/lang/Object;)Z" } : Jvm.MethodName)) ∈ lw_all := lw_g (lw_at lw_m2 148 rfl) rfl
theorem q461 : (Jvm.Cond.publicMethod ({ cls := "java/util/ArrayList", name := "add", desc := "(Ljava/lang/Object;)Z" } : Jvm.MethodName)) ∈ lw_tbl := lw_at lw_m2 149 rfl
theorem q462 : (Jvm.Cond.code ({ cls := "java/util/ArrayList", name := "add", desc := "(Ljava/lang/Object;)Z" } : Jvm.MethodName) prog_63_method_25_code (2 : Nat) (Option.some Jvm.ClassFile.FieldType.boolean)) ∈ lw_all := lw_g (lw_at lw_m2 150 rfl) rfl
theorem q463 : (Jvm.Cond.methodLink "java/util/ArrayList" (131 : Nat) ({ cls := "java/util/ArrayList", name := "add", desc := "(Ljava/lang/Object;[Ljava/lang/Object;I)V" } : Jvm.MethodName)) ∈ lw_all := lw_g (lw_at lw_m2 151 rfl) rfl
theorem q464 : (Jvm.Cond.privateMethod ({ cls := "java/util/ArrayList", name := "add", desc := "(Ljava/lang/Object;[Ljava/lang/Object;I)V" } : Jvm.MethodName)) ∈ lw_tbl := lw_at lw_m2 152 rfl
theorem q465 : (Jvm.Cond.instanceMethod ({ cls := "java/util/ArrayList", name := "add", desc := "(Ljava/lang/Object;[Ljava/lang/Object;I)V" } : Jvm.MethodName)) ∈ lw_all := lw_g (lw_at lw_m2 153 rfl) rfl
theorem q466 : (Jvm.Cond.code ({ cls := "java/util/ArrayList", name := "add", desc := "(Ljava/lang/Object;[Ljava/lang/Object;I)V" } : Jvm.MethodName) prog_63_method_24_code (4 : Nat) (Option.none : Option Jvm.ClassFile.FieldType)) ∈ lw_all := lw_g (lw_at lw_m2 154 rfl) rfl
theorem q467 : (Jvm.Cond.methodLink "java/util/ArrayList" (129 : Nat) ({ cls := "java/util/ArrayList", name := "grow", desc := "()[Ljava/lang/Object;" } : Jvm.MethodName)) ∈ lw_all := lw_g (lw_at lw_m2 155 rfl) rfl
theorem q468 : (Jvm.Cond.privateMethod ({ cls := "java/util/ArrayList", name := "grow", desc := "()[Ljava/lang/Object;" } : Jvm.MethodName)) ∈ lw_tbl := lw_at lw_m2 156 rfl
theorem q469 : (Jvm.Cond.instanceMethod ({ cls := "java/util/ArrayList", name := "grow", desc := "()[Ljava/lang/Object;" } : Jvm.MethodName)) ∈ lw_all := lw_g (lw_at lw_m2 157 rfl) rfl
theorem q470 : (Jvm.Cond.code ({ cls := "java/util/ArrayList", name := "grow", desc := "()[Ljava/lang/Object;" } : Jvm.MethodName) prog_63_method_7_code (1 : Nat) (Option.some (Jvm.ClassFile.FieldType.array (Jvm.ClassFile.FieldType.object "java/lang/Object")))) ∈ lw_all := lw_g (lw_at lw_m2 158 rfl) rfl
theorem q471 : (Jvm.Cond.methodLink "java/util/ArrayList" (69 : Nat) ({ cls := "java/util/ArrayList", name := "grow", desc := "(I)[Ljava/lang/Object;" } : Jvm.MethodName)) ∈ lw_all := lw_g (lw_at lw_m2 159 rfl) rfl
theorem q472 : (Jvm.Cond.privateMethod ({ cls := "java/util/ArrayList", name := "grow", desc := "(I)[Ljava/lang/Object;" } : Jvm.MethodName)) ∈ lw_tbl := lw_at lw_m2 160 rfl
theorem q473 : (Jvm.Cond.instanceMethod ({ cls := "java/util/ArrayList", name := "grow", desc := "(I)[Ljava/lang/Object;" } : Jvm.MethodName)) ∈ lw_all := lw_g (lw_at lw_m2 161 rfl) rfl
theorem q474 : (Jvm.Cond.code ({ cls := "java/util/ArrayList", name := "grow", desc := "(I)[Ljava/lang/Object;" } : Jvm.MethodName) prog_63_method_6_code (4 : Nat) (Option.some (Jvm.ClassFile.FieldType.array (Jvm.ClassFile.FieldType.object "java/lang/Object")))) ∈ lw_all := lw_g (lw_at lw_m2 162 rfl) rfl
theorem q475 : (Jvm.Cond.methodLink "java/util/ArrayList" (73 : Nat) ({ cls := "jdk/internal/util/ArraysSupport", name := "newLength", desc := "(III)I" } : Jvm.MethodName)) ∈ lw_all := lw_g (lw_at lw_m2 163 rfl) rfl
theorem q485 : (Jvm.Cond.methodLink "java/util/ArrayList" (66 : Nat) ({ cls := "java/util/Arrays", name := "copyOf", desc := "([Ljava/lang/Object;I)[Ljava/lang/Object;" } : Jvm.MethodName)) ∈ lw_all := lw_g (lw_at lw_m2 173 rfl) rfl
theorem q522 : (Jvm.Cond.selects "java/util/ArrayList" ({ cls := "java/lang/Object", name := "getClass", desc := "()Ljava/lang/Class;" } : Jvm.MethodName) ({ cls := "java/lang/Object", name := "getClass", desc := "()Ljava/lang/Class;" } : Jvm.MethodName)) ∈ lw_all := lw_g (lw_at lw_m2 210 rfl) rfl
theorem q542 : (Jvm.Cond.methodLink "java/util/ArrayList" (79 : Nat) ({ cls := "java/lang/Math", name := "max", desc := "(II)I" } : Jvm.MethodName)) ∈ lw_all := lw_g (lw_at lw_m2 230 rfl) rfl
theorem q543 : (Jvm.Cond.classLink "java/util/ArrayList" (7 : Nat) "java/lang/Object") ∈ lw_all := lw_g (lw_at lw_m2 231 rfl) rfl
theorem q550 : (Jvm.Cond.selects "java/util/ArrayList" ({ cls := "java/util/List", name := "size", desc := "()I" } : Jvm.MethodName) ({ cls := "java/util/ArrayList", name := "size", desc := "()I" } : Jvm.MethodName)) ∈ lw_all := lw_g (lw_at lw_m2 238 rfl) rfl
theorem q551 : (Jvm.Cond.unhidden "java/util/ArrayList" "size" "()I") ∈ lw_tbl := lw_at lw_m2 239 rfl
theorem q552 : (Jvm.Cond.instanceMethod ({ cls := "java/util/ArrayList", name := "size", desc := "()I" } : Jvm.MethodName)) ∈ lw_all := lw_g (lw_at lw_m3 0 rfl) rfl
theorem q553 : (Jvm.Cond.publicMethod ({ cls := "java/util/ArrayList", name := "size", desc := "()I" } : Jvm.MethodName)) ∈ lw_tbl := lw_at lw_m3 1 rfl
theorem q554 : (Jvm.Cond.code ({ cls := "java/util/ArrayList", name := "size", desc := "()I" } : Jvm.MethodName) prog_63_method_8_code (1 : Nat) (Option.some Jvm.ClassFile.FieldType.int)) ∈ lw_all := lw_g (lw_at lw_m3 2 rfl) rfl
theorem q1055 : (Jvm.Cond.selects "java/util/ArrayList" ({ cls := "java/util/List", name := "isEmpty", desc := "()Z" } : Jvm.MethodName) ({ cls := "java/util/ArrayList", name := "isEmpty", desc := "()Z" } : Jvm.MethodName)) ∈ lw_all := lw_g (lw_at lw_m5 23 rfl) rfl
theorem q1056 : (Jvm.Cond.unhidden "java/util/ArrayList" "isEmpty" "()Z") ∈ lw_tbl := lw_at lw_m5 24 rfl
theorem q1057 : (Jvm.Cond.instanceMethod ({ cls := "java/util/ArrayList", name := "isEmpty", desc := "()Z" } : Jvm.MethodName)) ∈ lw_all := lw_g (lw_at lw_m5 25 rfl) rfl
theorem q1058 : (Jvm.Cond.publicMethod ({ cls := "java/util/ArrayList", name := "isEmpty", desc := "()Z" } : Jvm.MethodName)) ∈ lw_tbl := lw_at lw_m5 26 rfl
theorem q1059 : (Jvm.Cond.code ({ cls := "java/util/ArrayList", name := "isEmpty", desc := "()Z" } : Jvm.MethodName) prog_63_method_9_code (1 : Nat) (Option.some Jvm.ClassFile.FieldType.boolean)) ∈ lw_all := lw_g (lw_at lw_m5 27 rfl) rfl
theorem q1143 : (Jvm.Cond.selects "java/util/ArrayList" ({ cls := "java/util/List", name := "get", desc := "(I)Ljava/lang/Object;" } : Jvm.MethodName) ({ cls := "java/util/ArrayList", name := "get", desc := "(I)Ljava/lang/Object;" } : Jvm.MethodName)) ∈ lw_all := lw_g (lw_at lw_m5 111 rfl) rfl
theorem q1144 : (Jvm.Cond.unhidden "java/util/ArrayList" "get" "(I)Ljava/lang/Object;") ∈ lw_tbl := lw_at lw_m5 112 rfl
theorem q1145 : (Jvm.Cond.instanceMethod ({ cls := "java/util/ArrayList", name := "get", desc := "(I)Ljava/lang/Object;" } : Jvm.MethodName)) ∈ lw_all := lw_g (lw_at lw_m5 113 rfl) rfl
theorem q1146 : (Jvm.Cond.publicMethod ({ cls := "java/util/ArrayList", name := "get", desc := "(I)Ljava/lang/Object;" } : Jvm.MethodName)) ∈ lw_tbl := lw_at lw_m5 114 rfl
theorem q1147 : (Jvm.Cond.code ({ cls := "java/util/ArrayList", name := "get", desc := "(I)Ljava/lang/Object;" } : Jvm.MethodName) prog_63_method_20_code (2 : Nat) (Option.some (Jvm.ClassFile.FieldType.object "java/lang/Object"))) ∈ lw_all := lw_g (lw_at lw_m5 115 rfl) rfl
theorem q1148 : (Jvm.Cond.methodLink "java/util/ArrayList" (118 : Nat) ({ cls := "java/util/Objects", name := "checkIndex", desc := "(II)I" } : Jvm.MethodName)) ∈ lw_all := lw_g (lw_at lw_m5 116 rfl) rfl
theorem q1152 : (Jvm.Cond.methodLink "java/util/ArrayList" (123 : Nat) ({ cls := "java/util/ArrayList", name := "elementData", desc := "(I)Ljava/lang/Object;" } : Jvm.MethodName)) ∈ lw_all := lw_g (lw_at lw_m5 120 rfl) rfl
theorem q1153 : (Jvm.Cond.instanceMethod ({ cls := "java/util/ArrayList", name := "elementData", desc := "(I)Ljava/lang/Object;" } : Jvm.MethodName)) ∈ lw_all := lw_g (lw_at lw_m5 121 rfl) rfl
theorem q1154 : (Jvm.Cond.selects "java/util/ArrayList" ({ cls := "java/util/ArrayList", name := "elementData", desc := "(I)Ljava/lang/Object;" } : Jvm.MethodName) ({ cls := "java/util/ArrayList", name := "elementData", desc := "(I)Ljava/lang/Object;" } : Jvm.MethodName)) ∈ lw_all := lw_g (lw_at lw_m5 122 rfl) rfl
theorem q1155 : (Jvm.Cond.code ({ cls := "java/util/ArrayList", name := "elementData", desc := "(I)Ljava/lang/Object;" } : Jvm.MethodName) prog_63_method_18_code (2 : Nat) (Option.some (Jvm.ClassFile.FieldType.object "java/lang/Object"))) ∈ lw_all := lw_g (lw_at lw_m5 123 rfl) rfl
theorem q1305 : (Jvm.Cond.selects "java/util/ArrayList" ({ cls := "java/util/List", name := "remove", desc := "(I)Ljava/lang/Object;" } : Jvm.MethodName) ({ cls := "java/util/ArrayList", name := "remove", desc := "(I)Ljava/lang/Object;" } : Jvm.MethodName)) ∈ lw_all := lw_g (lw_at lw_m6 33 rfl) rfl
theorem q1306 : (Jvm.Cond.unhidden "java/util/ArrayList" "remove" "(I)Ljava/lang/Object;") ∈ lw_tbl := lw_at lw_m6 34 rfl
theorem q1307 : (Jvm.Cond.instanceMethod ({ cls := "java/util/ArrayList", name := "remove", desc := "(I)Ljava/lang/Object;" } : Jvm.MethodName)) ∈ lw_all := lw_g (lw_at lw_m6 35 rfl) rfl
theorem q1308 : (Jvm.Cond.publicMethod ({ cls := "java/util/ArrayList", name := "remove", desc := "(I)Ljava/lang/Object;" } : Jvm.MethodName)) ∈ lw_tbl := lw_at lw_m6 36 rfl
theorem q1309 : (Jvm.Cond.code ({ cls := "java/util/ArrayList", name := "remove", desc := "(I)Ljava/lang/Object;" } : Jvm.MethodName) prog_63_method_29_code (4 : Nat) (Option.some (Jvm.ClassFile.FieldType.object "java/lang/Object"))) ∈ lw_all := lw_g (lw_at lw_m6 37 rfl) rfl
theorem q1310 : (Jvm.Cond.methodLink "java/util/ArrayList" (144 : Nat) ({ cls := "java/util/ArrayList", name := "fastRemove", desc := "([Ljava/lang/Object;I)V" } : Jvm.MethodName)) ∈ lw_all := lw_g (lw_at lw_m6 38 rfl) rfl
theorem q1311 : (Jvm.Cond.privateMethod ({ cls := "java/util/ArrayList", name := "fastRemove", desc := "([Ljava/lang/Object;I)V" } : Jvm.MethodName)) ∈ lw_tbl := lw_at lw_m6 39 rfl
theorem q1312 : (Jvm.Cond.instanceMethod ({ cls := "java/util/ArrayList", name := "fastRemove", desc := "([Ljava/lang/Object;I)V" } : Jvm.MethodName)) ∈ lw_all := lw_g (lw_at lw_m6 40 rfl) rfl
theorem q1313 : (Jvm.Cond.code ({ cls := "java/util/ArrayList", name := "fastRemove", desc := "([Ljava/lang/Object;I)V" } : Jvm.MethodName) prog_63_method_39_code (4 : Nat) (Option.none : Option Jvm.ClassFile.FieldType)) ∈ lw_all := lw_g (lw_at lw_m6 41 rfl) rfl
theorem q1314 : (Jvm.Cond.methodLink "java/util/ArrayList" (112 : Nat) ({ cls := "java/lang/System", name := "arraycopy", desc := "(Ljava/lang/Object;ILjava/lang/Object;II)V" } : Jvm.MethodName)) ∈ lw_all := lw_g (lw_at lw_m6 42 rfl) rfl
theorem q2521 : (Jvm.Cond.selects "java/util/ArrayList" ({ cls := "java/util/List", name := "add", desc := "(ILjava/lang/Object;)V" } : Jvm.MethodName) ({ cls := "java/util/ArrayList", name := "add", desc := "(ILjava/lang/Object;)V" } : Jvm.MethodName)) ∈ lw_all := lw_g (lw_at lw_m11 49 rfl) rfl
theorem q2522 : (Jvm.Cond.unhidden "java/util/ArrayList" "add" "(ILjava/lang/Object;)V") ∈ lw_tbl := lw_at lw_m11 50 rfl
theorem q2523 : (Jvm.Cond.instanceMethod ({ cls := "java/util/ArrayList", name := "add", desc := "(ILjava/lang/Object;)V" } : Jvm.MethodName)) ∈ lw_all := lw_g (lw_at lw_m11 51 rfl) rfl
theorem q2524 : (Jvm.Cond.publicMethod ({ cls := "java/util/ArrayList", name := "add", desc := "(ILjava/lang/Object;)V" } : Jvm.MethodName)) ∈ lw_tbl := lw_at lw_m11 52 rfl
theorem q2525 : (Jvm.Cond.code ({ cls := "java/util/ArrayList", name := "add", desc := "(ILjava/lang/Object;)V" } : Jvm.MethodName) prog_63_method_26_code (5 : Nat) (Option.none : Option Jvm.ClassFile.FieldType)) ∈ lw_all := lw_g (lw_at lw_m11 53 rfl) rfl
theorem q2526 : (Jvm.Cond.methodLink "java/util/ArrayList" (135 : Nat) ({ cls := "java/util/ArrayList", name := "rangeCheckForAdd", desc := "(I)V" } : Jvm.MethodName)) ∈ lw_all := lw_g (lw_at lw_m11 54 rfl) rfl
theorem q2527 : (Jvm.Cond.privateMethod ({ cls := "java/util/ArrayList", name := "rangeCheckForAdd", desc := "(I)V" } : Jvm.MethodName)) ∈ lw_tbl := lw_at lw_m11 55 rfl
theorem q2528 : (Jvm.Cond.instanceMethod ({ cls := "java/util/ArrayList", name := "rangeCheckForAdd", desc := "(I)V" } : Jvm.MethodName)) ∈ lw_all := lw_g (lw_at lw_m11 56 rfl) rfl
theorem q2529 : (Jvm.Cond.code ({ cls := "java/util/ArrayList", name := "rangeCheckForAdd", desc := "(I)V" } : Jvm.MethodName) prog_63_method_45_code (2 : Nat) (Option.none : Option Jvm.ClassFile.FieldType)) ∈ lw_all := lw_g (lw_at lw_m11 57 rfl) rfl
theorem q2530 : (Jvm.Cond.classLink "java/util/ArrayList" (187 : Nat) "java/lang/IndexOutOfBoundsException") ∈ lw_all := lw_g (lw_at lw_m11 58 rfl) rfl
theorem q2531 : (Jvm.Cond.methodLink "java/util/ArrayList" (198 : Nat) ({ cls := "java/util/ArrayList", name := "outOfBoundsMsg", desc := "(I)Ljava/lang/String;" } : Jvm.MethodName)) ∈ lw_all := lw_g (lw_at lw_m11 59 rfl) rfl
theorem q2532 : (Jvm.Cond.privateMethod ({ cls := "java/util/ArrayList", name := "outOfBoundsMsg", desc := "(I)Ljava/lang/String;" } : Jvm.MethodName)) ∈ lw_tbl := lw_at lw_m11 60 rfl
theorem q2533 : (Jvm.Cond.instanceMethod ({ cls := "java/util/ArrayList", name := "outOfBoundsMsg", desc := "(I)Ljava/lang/String;" } : Jvm.MethodName)) ∈ lw_all := lw_g (lw_at lw_m11 61 rfl) rfl
theorem q2534 : (Jvm.Cond.code ({ cls := "java/util/ArrayList", name := "outOfBoundsMsg", desc := "(I)Ljava/lang/String;" } : Jvm.MethodName) prog_63_method_46_code (2 : Nat) (Option.some (Jvm.ClassFile.FieldType.object "java/lang/String"))) ∈ lw_all := lw_g (lw_at lw_m11 62 rfl) rfl
theorem q2535 : (Jvm.Cond.classLink "java/util/ArrayList" (20 : Nat) "java/lang/StringBuilder") ∈ lw_all := lw_g (lw_at lw_m11 63 rfl) rfl
theorem q2536 : (Jvm.Cond.methodLink "java/util/ArrayList" (22 : Nat) ({ cls := "java/lang/StringBuilder", name := "<init>", desc := "()V" } : Jvm.MethodName)) ∈ lw_all := lw_g (lw_at lw_m11 64 rfl) rfl
theorem q2537 : (Jvm.Cond.stringRef "java/util/ArrayList" (201 : Nat) "Index: ") ∈ lw_tbl := lw_at lw_m11 65 rfl
theorem q2538 : (Jvm.Cond.methodLink "java/util/ArrayList" (25 : Nat) ({ cls := "java/lang/StringBuilder", name := "append", desc := "(Ljava/lang/String;)Ljava/lang/StringBuilder;" } : Jvm.MethodName)) ∈ lw_all := lw_g (lw_at lw_m11 66 rfl) rfl
theorem q2539 : (Jvm.Cond.methodLink "java/util/ArrayList" (29 : Nat) ({ cls := "java/lang/StringBuilder", name := "append", desc := "(I)Ljava/lang/StringBuilder;" } : Jvm.MethodName)) ∈ lw_all := lw_g (lw_at lw_m11 67 rfl) rfl
theorem q2540 : (Jvm.Cond.stringRef "java/util/ArrayList" (203 : Nat) ", Size: ") ∈ lw_tbl := lw_at lw_m11 68 rfl
theorem q2541 : (Jvm.Cond.methodLink "java/util/ArrayList" (32 : Nat) ({ cls := "java/lang/StringBuilder", name := "toString", desc := "()Ljava/lang/String;" } : Jvm.MethodName)) ∈ lw_all := lw_g (lw_at lw_m11 69 rfl) rfl
theorem q2542 : (Jvm.Cond.methodLink "java/util/ArrayList" (193 : Nat) ({ cls := "java/lang/IndexOutOfBoundsException", name := "<init>", desc := "(Ljava/lang/String;)V" } : Jvm.MethodName)) ∈ lw_all := lw_g (lw_at lw_m11 70 rfl) rfl
theorem q3154 : (Jvm.Cond.castable "java/util/ArrayList" "java/lang/Object") ∈ lw_tbl := lw_at lw_m13 202 rfl
theorem in_J2 : ∀ w ∈ wsJ20, w ∈ lw_all := lw_in wsJ20 [172, 168, 170] (by decide +kernel) (by decide +kernel)
/-! java/util/ArrayDeque -/
set_option maxRecDepth 100000
def RJ3 : String := "java/util/ArrayDeque"
def TJ3 : u_T := fun k => match k with
  | 0 => ("java/util/ArrayDeque", "elements", "[Ljava/lang/Object;", false)
  | 1 => ("java/util/ArrayDeque", "head", "I", false)
  | _ => ("java/util/ArrayDeque", "tail", "I", false)
def tyJ3 : Nat → FieldType := fun k => match k with
  | 0 => .array (.object "java/lang/Object")
  | 1 => .int
  | _ => .int
abbrev wsJ30 : List Cond := u_ws RJ3 TJ3 3
theorem nmJ3 : ∀ a, a < 3 → ∀ b, b < 3 → a ≠ b → (TJ3 a).2.1 ≠ (TJ3 b).2.1 := by decide +kernel
theorem tyJ3_ok : ∀ k, k < 3 → parseFieldDescriptor (TJ3 k).2.2.1 = some (tyJ3 k) := by decide +kernel
abbrev cJ3_init : ByteArray := prog_62_method_3_code
def yJ3_init : MethodName := ⟨RJ3, "<init>", "()V"⟩
def dkwJ3_init_0 : List UInt8 := [42, 183, 0, 42, 42, 16, 17, 189, 0, 47, 181, 0, 3, 177]
abbrev dktJ3_init_0 : List UInt8 := dkwJ3_init_0 ++ []
theorem dksJ3_init_0 : cJ3_init.data.toList.drop 0 = dktJ3_init_0 := by decide +kernel
theorem dJ3_init_0 : decode cJ3_init 0 = .ok (.aload_n 0, 1) := dk_42 (dk_at dksJ3_init_0 0 rfl rfl)
theorem dJ3_init_1 : decode cJ3_init 1 = .ok (.invokespecial 42, 3) := dk_183 0 42 (dk_at dksJ3_init_0 1 rfl rfl)
theorem dJ3_init_4 : decode cJ3_init 4 = .ok (.aload_n 0, 1) := dk_42 (dk_at dksJ3_init_0 4 rfl rfl)
theorem dJ3_init_5 : decode cJ3_init 5 = .ok (.bipush 17, 2) := dk_16 17 (dk_at dksJ3_init_0 5 rfl rfl)
theorem dJ3_init_7 : decode cJ3_init 7 = .ok (.anewarray 47, 3) := dk_189 0 47 (dk_at dksJ3_init_0 7 rfl rfl)
theorem dJ3_init_10 : decode cJ3_init 10 = .ok (.putfield 3, 3) := dk_181 0 3 (dk_at dksJ3_init_0 10 rfl rfl)
theorem dJ3_init_13 : decode cJ3_init 13 = .ok (.return_, 1) := dk_177 (dk_at dksJ3_init_0 13 rfl rfl)
abbrev cJ3_size : ByteArray := prog_62_method_37_code
def yJ3_size : MethodName := ⟨RJ3, "size", "()I"⟩
def dkwJ3_size_0 : List UInt8 := [42, 180, 0, 20, 42, 180, 0, 24, 42, 180, 0, 3, 190, 184, 0, 127, 172]
abbrev dktJ3_size_0 : List UInt8 := dkwJ3_size_0 ++ []
theorem dksJ3_size_0 : cJ3_size.data.toList.drop 0 = dktJ3_size_0 := by decide +kernel
theorem dJ3_size_0 : decode cJ3_size 0 = .ok (.aload_n 0, 1) := dk_42 (dk_at dksJ3_size_0 0 rfl rfl)
theorem dJ3_size_1 : decode cJ3_size 1 = .ok (.getfield 20, 3) := dk_180 0 20 (dk_at dksJ3_size_0 1 rfl rfl)
theorem dJ3_size_4 : decode cJ3_size 4 = .ok (.aload_n 0, 1) := dk_42 (dk_at dksJ3_size_0 4 rfl rfl)
theorem dJ3_size_5 : decode cJ3_size 5 = .ok (.getfield 24, 3) := dk_180 0 24 (dk_at dksJ3_size_0 5 rfl rfl)
theorem dJ3_size_8 : decode cJ3_size 8 = .ok (.aload_n 0, 1) := dk_42 (dk_at dksJ3_size_0 8 rfl rfl)
theorem dJ3_size_9 : decode cJ3_size 9 = .ok (.getfield 3, 3) := dk_180 0 3 (dk_at dksJ3_size_0 9 rfl rfl)
theorem dJ3_size_12 : decode cJ3_size 12 = .ok (.arraylength, 1) := dk_190 (dk_at dksJ3_size_0 12 rfl rfl)
theorem dJ3_size_13 : decode cJ3_size 13 = .ok (.invokestatic 127, 3) := dk_184 0 127 (dk_at dksJ3_size_0 13 rfl rfl)
theorem dJ3_size_16 : decode cJ3_size 16 = .ok (.ireturn, 1) := dk_172 (dk_at dksJ3_size_0 16 rfl rfl)
abbrev cJ3_sub : ByteArray := prog_62_method_9_code
def yJ3_sub : MethodName := ⟨RJ3, "sub", "(III)I"⟩
def dkwJ3_sub_0 : List UInt8 := [26, 27, 100, 89, 59, 156, 0, 7, 26, 28, 96, 59, 26, 172]
abbrev dktJ3_sub_0 : List UInt8 := dkwJ3_sub_0 ++ []
theorem dksJ3_sub_0 : cJ3_sub.data.toList.drop 0 = dktJ3_sub_0 := by decide +kernel
theorem dJ3_sub_0 : decode cJ3_sub 0 = .ok (.iload_n 0, 1) := dk_26 (dk_at dksJ3_sub_0 0 rfl rfl)
theorem dJ3_sub_1 : decode cJ3_sub 1 = .ok (.iload_n 1, 1) := dk_27 (dk_at dksJ3_sub_0 1 rfl rfl)
theorem dJ3_sub_2 : decode cJ3_sub 2 = .ok (.isub, 1) := dk_100 (dk_at dksJ3_sub_0 2 rfl rfl)
theorem dJ3_sub_3 : decode cJ3_sub 3 = .ok (.dup, 1) := dk_89 (dk_at dksJ3_sub_0 3 rfl rfl)
theorem dJ3_sub_4 : decode cJ3_sub 4 = .ok (.istore_n 0, 1) := dk_59 (dk_at dksJ3_sub_0 4 rfl rfl)
theorem dJ3_sub_5 : decode cJ3_sub 5 = .ok (.ifCond .ge 7, 3) := dk_156 0 7 (dk_at dksJ3_sub_0 5 rfl rfl)
theorem dJ3_sub_8 : decode cJ3_sub 8 = .ok (.iload_n 0, 1) := dk_26 (dk_at dksJ3_sub_0 8 rfl rfl)
theorem dJ3_sub_9 : decode cJ3_sub 9 = .ok (.iload_n 2, 1) := dk_28 (dk_at dksJ3_sub_0 9 rfl rfl)
theorem dJ3_sub_10 : decode cJ3_sub 10 = .ok (.iadd, 1) := dk_96 (dk_at dksJ3_sub_0 10 rfl rfl)
theorem dJ3_sub_11 : decode cJ3_sub 11 = .ok (.istore_n 0, 1) := dk_59 (dk_at dksJ3_sub_0 11 rfl rfl)
theorem dJ3_sub_12 : decode cJ3_sub 12 = .ok (.iload_n 0, 1) := dk_26 (dk_at dksJ3_sub_0 12 rfl rfl)
theorem dJ3_sub_13 : decode cJ3_sub 13 = .ok (.ireturn, 1) := dk_172 (dk_at dksJ3_sub_0 13 rfl rfl)
abbrev cJ3_removeFirst : ByteArray := prog_62_method_18_code
def yJ3_removeFirst : MethodName := ⟨RJ3, "removeFirst", "()Ljava/lang/Object;"⟩
def dkwJ3_removeFirst_0 : List UInt8 := [42, 182, 0, 93, 76, 43, 199, 0, 11, 187, 0, 97, 89, 183, 0, 99, 191, 43, 176]
abbrev dktJ3_removeFirst_0 : List UInt8 := dkwJ3_removeFirst_0 ++ []
theorem dksJ3_removeFirst_0 : cJ3_removeFirst.data.toList.drop 0 = dktJ3_removeFirst_0 := by decide +kernel
theorem dJ3_removeFirst_0 : decode cJ3_removeFirst 0 = .ok (.aload_n 0, 1) := dk_42 (dk_at dksJ3_removeFirst_0 0 rfl rfl)
theorem dJ3_removeFirst_1 : decode cJ3_removeFirst 1 = .ok (.invokevirtual 93, 3) := dk_182 0 93 (dk_at dksJ3_removeFirst_0 1 rfl rfl)
theorem dJ3_removeFirst_4 : decode cJ3_removeFirst 4 = .ok (.astore_n 1, 1) := dk_76 (dk_at dksJ3_removeFirst_0 4 rfl rfl)
theorem dJ3_removeFirst_5 : decode cJ3_removeFirst 5 = .ok (.aload_n 1, 1) := dk_43 (dk_at dksJ3_removeFirst_0 5 rfl rfl)
theorem dJ3_removeFirst_6 : decode cJ3_removeFirst 6 = .ok (.ifnonnull 11, 3) := dk_199 0 11 (dk_at dksJ3_removeFirst_0 6 rfl rfl)
theorem dJ3_removeFirst_9 : decode cJ3_removeFirst 9 = .ok (.new 97, 3) := dk_187 0 97 (dk_at dksJ3_removeFirst_0 9 rfl rfl)
theorem dJ3_removeFirst_12 : decode cJ3_removeFirst 12 = .ok (.dup, 1) := dk_89 (dk_at dksJ3_removeFirst_0 12 rfl rfl)
theorem dJ3_removeFirst_13 : decode cJ3_removeFirst 13 = .ok (.invokespecial 99, 3) := dk_183 0 99 (dk_at dksJ3_removeFirst_0 13 rfl rfl)
theorem dJ3_removeFirst_16 : decode cJ3_removeFirst 16 = .ok (.athrow, 1) := dk_191 (dk_at dksJ3_removeFirst_0 16 rfl rfl)
theorem dJ3_removeFirst_17 : decode cJ3_removeFirst 17 = .ok (.aload_n 1, 1) := dk_43 (dk_at dksJ3_removeFirst_0 17 rfl rfl)
theorem dJ3_removeFirst_18 : decode cJ3_removeFirst 18 = .ok (.areturn, 1) := dk_176 (dk_at dksJ3_removeFirst_0 18 rfl rfl)
abbrev cJ3_pollFirst : ByteArray := prog_62_method_20_code
def yJ3_pollFirst : MethodName := ⟨RJ3, "pollFirst", "()Ljava/lang/Object;"⟩
def dkwJ3_pollFirst_1 : List UInt8 := [42, 28, 43, 190, 184, 0, 74, 181, 0, 24, 45, 176]
abbrev dktJ3_pollFirst_1 : List UInt8 := dkwJ3_pollFirst_1 ++ []
def dkwJ3_pollFirst_0 : List UInt8 := [42, 180, 0, 3, 89, 76, 42, 180, 0, 24, 89, 61, 184, 0, 103, 78, 45, 198, 0, 17, 43, 28, 1, 83]
abbrev dktJ3_pollFirst_0 : List UInt8 := dkwJ3_pollFirst_0 ++ dktJ3_pollFirst_1
theorem dksJ3_pollFirst_0 : cJ3_pollFirst.data.toList.drop 0 = dktJ3_pollFirst_0 := by decide +kernel
theorem dksJ3_pollFirst_1 : cJ3_pollFirst.data.toList.drop 24 = dktJ3_pollFirst_1 := dk_seg dksJ3_pollFirst_0 24 rfl rfl
theorem dJ3_pollFirst_0 : decode cJ3_pollFirst 0 = .ok (.aload_n 0, 1) := dk_42 (dk_at dksJ3_pollFirst_0 0 rfl rfl)
theorem dJ3_pollFirst_1 : decode cJ3_pollFirst 1 = .ok (.getfield 3, 3) := dk_180 0 3 (dk_at dksJ3_pollFirst_0 1 rfl rfl)
theorem dJ3_pollFirst_4 : decode cJ3_pollFirst 4 = .ok (.dup, 1) := dk_89 (dk_at dksJ3_pollFirst_0 4 rfl rfl)
theorem dJ3_pollFirst_5 : decode cJ3_pollFirst 5 = .ok (.astore_n 1, 1) := dk_76 (dk_at dksJ3_pollFirst_0 5 rfl rfl)
theorem dJ3_pollFirst_6 : decode cJ3_pollFirst 6 = .ok (.aload_n 0, 1) := dk_42 (dk_at dksJ3_pollFirst_0 6 rfl rfl)
theorem dJ3_pollFirst_7 : decode cJ3_pollFirst 7 = .ok (.getfield 24, 3) := dk_180 0 24 (dk_at dksJ3_pollFirst_0 7 rfl rfl)
theorem dJ3_pollFirst_10 : decode cJ3_pollFirst 10 = .ok (.dup, 1) := dk_89 (dk_at dksJ3_pollFirst_0 10 rfl rfl)
theorem dJ3_pollFirst_11 : decode cJ3_pollFirst 11 = .ok (.istore_n 2, 1) := dk_61 (dk_at dksJ3_pollFirst_0 11 rfl rfl)
theorem dJ3_pollFirst_12 : decode cJ3_pollFirst 12 = .ok (.invokestatic 103, 3) := dk_184 0 103 (dk_at dksJ3_pollFirst_0 12 rfl rfl)
theorem dJ3_pollFirst_15 : decode cJ3_pollFirst 15 = .ok (.astore_n 3, 1) := dk_78 (dk_at dksJ3_pollFirst_0 15 rfl rfl)
theorem dJ3_pollFirst_16 : decode cJ3_pollFirst 16 = .ok (.aload_n 3, 1) := dk_45 (dk_at dksJ3_pollFirst_0 16 rfl rfl)
theorem dJ3_pollFirst_17 : decode cJ3_pollFirst 17 = .ok (.ifnull 17, 3) := dk_198 0 17 (dk_at dksJ3_pollFirst_0 17 rfl rfl)
theorem dJ3_pollFirst_20 : decode cJ3_pollFirst 20 = .ok (.aload_n 1, 1) := dk_43 (dk_at dksJ3_pollFirst_0 20 rfl rfl)
theorem dJ3_pollFirst_21 : decode cJ3_pollFirst 21 = .ok (.iload_n 2, 1) := dk_28 (dk_at dksJ3_pollFirst_0 21 rfl rfl)
theorem dJ3_pollFirst_22 : decode cJ3_pollFirst 22 = .ok (.aconst_null, 1) := dk_1 (dk_at dksJ3_pollFirst_0 22 rfl rfl)
theorem dJ3_pollFirst_23 : decode cJ3_pollFirst 23 = .ok (.aastore, 1) := dk_83 (dk_at dksJ3_pollFirst_0 23 rfl rfl)
theorem dJ3_pollFirst_24 : decode cJ3_pollFirst 24 = .ok (.aload_n 0, 1) := dk_42 (dk_at dksJ3_pollFirst_1 0 rfl rfl)
theorem dJ3_pollFirst_25 : decode cJ3_pollFirst 25 = .ok (.iload_n 2, 1) := dk_28 (dk_at dksJ3_pollFirst_1 1 rfl rfl)
theorem dJ3_pollFirst_26 : decode cJ3_pollFirst 26 = .ok (.aload_n 1, 1) := dk_43 (dk_at dksJ3_pollFirst_1 2 rfl rfl)
theorem dJ3_pollFirst_27 : decode cJ3_pollFirst 27 = .ok (.arraylength, 1) := dk_190 (dk_at dksJ3_pollFirst_1 3 rfl rfl)
theorem dJ3_pollFirst_28 : decode cJ3_pollFirst 28 = .ok (.invokestatic 74, 3) := dk_184 0 74 (dk_at dksJ3_pollFirst_1 4 rfl rfl)
theorem dJ3_pollFirst_31 : decode cJ3_pollFirst 31 = .ok (.putfield 24, 3) := dk_181 0 24 (dk_at dksJ3_pollFirst_1 7 rfl rfl)
theorem dJ3_pollFirst_34 : decode cJ3_pollFirst 34 = .ok (.aload_n 3, 1) := dk_45 (dk_at dksJ3_pollFirst_1 10 rfl rfl)
theorem dJ3_pollFirst_35 : decode cJ3_pollFirst 35 = .ok (.areturn, 1) := dk_176 (dk_at dksJ3_pollFirst_1 11 rfl rfl)
abbrev cJ3_elementAt : ByteArray := prog_62_method_10_code
def yJ3_elementAt : MethodName := ⟨RJ3, "elementAt", "([Ljava/lang/Object;I)Ljava/lang/Object;"⟩
def dkwJ3_elementAt_0 : List UInt8 := [42, 27, 50, 176]
abbrev dktJ3_elementAt_0 : List UInt8 := dkwJ3_elementAt_0 ++ []
theorem dksJ3_elementAt_0 : cJ3_elementAt.data.toList.drop 0 = dktJ3_elementAt_0 := by decide +kernel
theorem dJ3_elementAt_0 : decode cJ3_elementAt 0 = .ok (.aload_n 0, 1) := dk_42 (dk_at dksJ3_elementAt_0 0 rfl rfl)
theorem dJ3_elementAt_1 : decode cJ3_elementAt 1 = .ok (.iload_n 1, 1) := dk_27 (dk_at dksJ3_elementAt_0 1 rfl rfl)
theorem dJ3_elementAt_2 : decode cJ3_elementAt 2 = .ok (.aaload, 1) := dk_50 (dk_at dksJ3_elementAt_0 2 rfl rfl)
theorem dJ3_elementAt_3 : decode cJ3_elementAt 3 = .ok (.areturn, 1) := dk_176 (dk_at dksJ3_elementAt_0 3 rfl rfl)
abbrev cJ3_inc : ByteArray := prog_62_method_6_code
def yJ3_inc : MethodName := ⟨RJ3, "inc", "(II)I"⟩
def dkwJ3_inc_0 : List UInt8 := [132, 0, 1, 26, 27, 161, 0, 5, 3, 59, 26, 172]
abbrev dktJ3_inc_0 : List UInt8 := dkwJ3_inc_0 ++ []
theorem dksJ3_inc_0 : cJ3_inc.data.toList.drop 0 = dktJ3_inc_0 := by decide +kernel
theorem dJ3_inc_0 : decode cJ3_inc 0 = .ok (.iinc 0 1, 3) := dk_132 0 1 (dk_at dksJ3_inc_0 0 rfl rfl)
theorem dJ3_inc_3 : decode cJ3_inc 3 = .ok (.iload_n 0, 1) := dk_26 (dk_at dksJ3_inc_0 3 rfl rfl)
theorem dJ3_inc_4 : decode cJ3_inc 4 = .ok (.iload_n 1, 1) := dk_27 (dk_at dksJ3_inc_0 4 rfl rfl)
theorem dJ3_inc_5 : decode cJ3_inc 5 = .ok (.if_icmp .lt 5, 3) := dk_161 0 5 (dk_at dksJ3_inc_0 5 rfl rfl)
theorem dJ3_inc_8 : decode cJ3_inc 8 = .ok (.iconst 0, 1) := dk_3 (dk_at dksJ3_inc_0 8 rfl rfl)
theorem dJ3_inc_9 : decode cJ3_inc 9 = .ok (.istore_n 0, 1) := dk_59 (dk_at dksJ3_inc_0 9 rfl rfl)
theorem dJ3_inc_10 : decode cJ3_inc 10 = .ok (.iload_n 0, 1) := dk_26 (dk_at dksJ3_inc_0 10 rfl rfl)
theorem dJ3_inc_11 : decode cJ3_inc 11 = .ok (.ireturn, 1) := dk_172 (dk_at dksJ3_inc_0 11 rfl rfl)
abbrev cJ3_addLast : ByteArray := prog_62_method_13_code
def yJ3_addLast : MethodName := ⟨RJ3, "addLast", "(Ljava/lang/Object;)V"⟩
def dkwJ3_addLast_2 : List UInt8 := [182, 0, 71, 177]
abbrev dktJ3_addLast_2 : List UInt8 := dkwJ3_addLast_2 ++ []
def dkwJ3_addLast_1 : List UInt8 := [42, 180, 0, 24, 42, 42, 180, 0, 20, 44, 190, 184, 0, 74, 90, 181, 0, 20, 160, 0, 8, 42, 4]
abbrev dktJ3_addLast_1 : List UInt8 := dkwJ3_addLast_1 ++ dktJ3_addLast_2
def dkwJ3_addLast_0 : List UInt8 := [43, 199, 0, 11, 187, 0, 65, 89, 183, 0, 67, 191, 42, 180, 0, 3, 77, 44, 42, 180, 0, 20, 43, 83]
abbrev dktJ3_addLast_0 : List UInt8 := dkwJ3_addLast_0 ++ dktJ3_addLast_1
theorem dksJ3_addLast_0 : cJ3_addLast.data.toList.drop 0 = dktJ3_addLast_0 := by decide +kernel
theorem dksJ3_addLast_1 : cJ3_addLast.data.toList.drop 24 = dktJ3_addLast_1 := dk_seg dksJ3_addLast_0 24 rfl rfl
theorem dksJ3_addLast_2 : cJ3_addLast.data.toList.drop 47 = dktJ3_addLast_2 := dk_seg dksJ3_addLast_1 23 rfl rfl
theorem dJ3_addLast_0 : decode cJ3_addLast 0 = .ok (.aload_n 1, 1) := dk_43 (dk_at dksJ3_addLast_0 0 rfl rfl)
theorem dJ3_addLast_1 : decode cJ3_addLast 1 = .ok (.ifnonnull 11, 3) := dk_199 0 11 (dk_at dksJ3_addLast_0 1 rfl rfl)
theorem dJ3_addLast_4 : decode cJ3_addLast 4 = .ok (.new 65, 3) := dk_187 0 65 (dk_at dksJ3_addLast_0 4 rfl rfl)
theorem dJ3_addLast_7 : decode cJ3_addLast 7 = .ok (.dup, 1) := dk_89 (dk_at dksJ3_addLast_0 7 rfl rfl)
theorem dJ3_addLast_8 : decode cJ3_addLast 8 = .ok (.invokespecial 67, 3) := dk_183 0 67 (dk_at dksJ3_addLast_0 8 rfl rfl)
theorem dJ3_addLast_11 : decode cJ3_addLast 11 = .ok (.athrow, 1) := dk_191 (dk_at dksJ3_addLast_0 11 rfl rfl)
theorem dJ3_addLast_12 : decode cJ3_addLast 12 = .ok (.aload_n 0, 1) := dk_42 (dk_at dksJ3_addLast_0 12 rfl rfl)
theorem dJ3_addLast_13 : decode cJ3_addLast 13 = .ok (.getfield 3, 3) := dk_180 0 3 (dk_at dksJ3_addLast_0 13 rfl rfl)
theorem dJ3_addLast_16 : decode cJ3_addLast 16 = .ok (.astore_n 2, 1) := dk_77 (dk_at dksJ3_addLast_0 16 rfl rfl)
theorem dJ3_addLast_17 : decode cJ3_addLast 17 = .ok (.aload_n 2, 1) := dk_44 (dk_at dksJ3_addLast_0 17 rfl rfl)
theorem dJ3_addLast_18 : decode cJ3_addLast 18 = .ok (.aload_n 0, 1) := dk_42 (dk_at dksJ3_addLast_0 18 rfl rfl)
theorem dJ3_addLast_19 : decode cJ3_addLast 19 = .ok (.getfield 20, 3) := dk_180 0 20 (dk_at dksJ3_addLast_0 19 rfl rfl)
theorem dJ3_addLast_22 : decode cJ3_addLast 22 = .ok (.aload_n 1, 1) := dk_43 (dk_at dksJ3_addLast_0 22 rfl rfl)
theorem dJ3_addLast_23 : decode cJ3_addLast 23 = .ok (.aastore, 1) := dk_83 (dk_at dksJ3_addLast_0 23 rfl rfl)
theorem dJ3_addLast_24 : decode cJ3_addLast 24 = .ok (.aload_n 0, 1) := dk_42 (dk_at dksJ3_addLast_1 0 rfl rfl)
theorem dJ3_addLast_25 : decode cJ3_addLast 25 = .ok (.getfield 24, 3) := dk_180 0 24 (dk_at dksJ3_addLast_1 1 rfl rfl)
theorem dJ3_addLast_28 : decode cJ3_addLast 28 = .ok (.aload_n 0, 1) := dk_42 (dk_at dksJ3_addLast_1 4 rfl rfl)
theorem dJ3_addLast_29 : decode cJ3_addLast 29 = .ok (.aload_n 0, 1) := dk_42 (dk_at dksJ3_addLast_1 5 rfl rfl)
theorem dJ3_addLast_30 : decode cJ3_addLast 30 = .ok (.getfield 20, 3) := dk_180 0 20 (dk_at dksJ3_addLast_1 6 rfl rfl)
theorem dJ3_addLast_33 : decode cJ3_addLast 33 = .ok (.aload_n 2, 1) := dk_44 (dk_at dksJ3_addLast_1 9 rfl rfl)
theorem dJ3_addLast_34 : decode cJ3_addLast 34 = .ok (.arraylength, 1) := dk_190 (dk_at dksJ3_addLast_1 10 rfl rfl)
theorem dJ3_addLast_35 : decode cJ3_addLast 35 = .ok (.invokestatic 74, 3) := dk_184 0 74 (dk_at dksJ3_addLast_1 11 rfl rfl)
theorem dJ3_addLast_38 : decode cJ3_addLast 38 = .ok (.dup_x1, 1) := dk_90 (dk_at dksJ3_addLast_1 14 rfl rfl)
theorem dJ3_addLast_39 : decode cJ3_addLast 39 = .ok (.putfield 20, 3) := dk_181 0 20 (dk_at dksJ3_addLast_1 15 rfl rfl)
theorem dJ3_addLast_42 : decode cJ3_addLast 42 = .ok (.if_icmp .ne 8, 3) := dk_160 0 8 (dk_at dksJ3_addLast_1 18 rfl rfl)
theorem dJ3_addLast_45 : decode cJ3_addLast 45 = .ok (.aload_n 0, 1) := dk_42 (dk_at dksJ3_addLast_1 21 rfl rfl)
theorem dJ3_addLast_46 : decode cJ3_addLast 46 = .ok (.iconst 1, 1) := dk_4 (dk_at dksJ3_addLast_1 22 rfl rfl)
theorem dJ3_addLast_47 : decode cJ3_addLast 47 = .ok (.invokevirtual 71, 3) := dk_182 0 71 (dk_at dksJ3_addLast_2 0 rfl rfl)
theorem dJ3_addLast_50 : decode cJ3_addLast 50 = .ok (.return_, 1) := dk_177 (dk_at dksJ3_addLast_2 3 rfl rfl)
abbrev cJ3_grow : ByteArray := prog_62_method_1_code
def yJ3_grow : MethodName := ⟨RJ3, "grow", "(I)V"⟩
def dkwJ3_grow_7 : List UInt8 := [177]
abbrev dktJ3_grow_7 : List UInt8 := dkwJ3_grow_7 ++ []
def dkwJ3_grow_6 : List UInt8 := [181, 0, 24, 54, 8, 21, 7, 21, 8, 162, 0, 15, 25, 5, 21, 7, 1, 83, 132, 7, 1, 167, 255, 240]
abbrev dktJ3_grow_6 : List UInt8 := dkwJ3_grow_6 ++ dktJ3_grow_7
def dkwJ3_grow_5 : List UInt8 := [42, 180, 0, 24, 100, 184, 0, 27, 42, 180, 0, 24, 54, 7, 42, 89, 180, 0, 24, 21, 6, 96, 90]
abbrev dktJ3_grow_5 : List UInt8 := dkwJ3_grow_5 ++ dktJ3_grow_6
def dkwJ3_grow_4 : List UInt8 := [198, 0, 71, 29, 28, 100, 54, 6, 25, 5, 42, 180, 0, 24, 25, 5, 42, 180, 0, 24, 21, 6, 96, 28]
abbrev dktJ3_grow_4 : List UInt8 := dkwJ3_grow_4 ++ dktJ3_grow_5
def dkwJ3_grow_3 : List UInt8 := [180, 0, 24, 161, 0, 24, 42, 180, 0, 20, 42, 180, 0, 24, 160, 0, 81, 25, 5, 42, 180, 0, 24, 50]
abbrev dktJ3_grow_3 : List UInt8 := dkwJ3_grow_3 ++ dktJ3_grow_4
def dkwJ3_grow_2 : List UInt8 := [182, 0, 10, 62, 42, 42, 180, 0, 3, 29, 184, 0, 14, 90, 181, 0, 3, 58, 5, 42, 180, 0, 20, 42]
abbrev dktJ3_grow_2 : List UInt8 := dkwJ3_grow_2 ++ dktJ3_grow_3
def dkwJ3_grow_1 : List UInt8 := [21, 4, 27, 161, 0, 15, 28, 21, 4, 96, 89, 62, 18, 9, 100, 158, 0, 11, 42, 27, 21, 4]
abbrev dktJ3_grow_1 : List UInt8 := dkwJ3_grow_1 ++ dktJ3_grow_2
def dkwJ3_grow_0 : List UInt8 := [42, 180, 0, 3, 190, 61, 28, 16, 64, 162, 0, 9, 28, 5, 96, 167, 0, 6, 28, 4, 122, 54, 4]
abbrev dktJ3_grow_0 : List UInt8 := dkwJ3_grow_0 ++ dktJ3_grow_1
theorem dksJ3_grow_0 : cJ3_grow.data.toList.drop 0 = dktJ3_grow_0 := by decide +kernel
theorem dksJ3_grow_1 : cJ3_grow.data.toList.drop 23 = dktJ3_grow_1 := dk_seg dksJ3_grow_0 23 rfl rfl
theorem dksJ3_grow_2 : cJ3_grow.data.toList.drop 45 = dktJ3_grow_2 := dk_seg dksJ3_grow_1 22 rfl rfl
theorem dksJ3_grow_3 : cJ3_grow.data.toList.drop 69 = dktJ3_grow_3 := dk_seg dksJ3_grow_2 24 rfl rfl
theorem dksJ3_grow_4 : cJ3_grow.data.toList.drop 93 = dktJ3_grow_4 := dk_seg dksJ3_grow_3 24 rfl rfl
theorem dksJ3_grow_5 : cJ3_grow.data.toList.drop 117 = dktJ3_grow_5 := dk_seg dksJ3_grow_4 24 rfl rfl
theorem dksJ3_grow_6 : cJ3_grow.data.toList.drop 140 = dktJ3_grow_6 := dk_seg dksJ3_grow_5 23 rfl rfl
theorem dksJ3_grow_7 : cJ3_grow.data.toList.drop 164 = dktJ3_grow_7 := dk_seg dksJ3_grow_6 24 rfl rfl
theorem dJ3_grow_0 : decode cJ3_grow 0 = .ok (.aload_n 0, 1) := dk_42 (dk_at dksJ3_grow_0 0 rfl rfl)
theorem dJ3_grow_1 : decode cJ3_grow 1 = .ok (.getfield 3, 3) := dk_180 0 3 (dk_at dksJ3_grow_0 1 rfl rfl)
theorem dJ3_grow_4 : decode cJ3_grow 4 = .ok (.arraylength, 1) := dk_190 (dk_at dksJ3_grow_0 4 rfl rfl)
theorem dJ3_grow_5 : decode cJ3_grow 5 = .ok (.istore_n 2, 1) := dk_61 (dk_at dksJ3_grow_0 5 rfl rfl)
theorem dJ3_grow_6 : decode cJ3_grow 6 = .ok (.iload_n 2, 1) := dk_28 (dk_at dksJ3_grow_0 6 rfl rfl)
theorem dJ3_grow_7 : decode cJ3_grow 7 = .ok (.bipush 64, 2) := dk_16 64 (dk_at dksJ3_grow_0 7 rfl rfl)
theorem dJ3_grow_9 : decode cJ3_grow 9 = .ok (.if_icmp .ge 9, 3) := dk_162 0 9 (dk_at dksJ3_grow_0 9 rfl rfl)
theorem dJ3_grow_12 : decode cJ3_grow 12 = .ok (.iload_n 2, 1) := dk_28 (dk_at dksJ3_grow_0 12 rfl rfl)
theorem dJ3_grow_13 : decode cJ3_grow 13 = .ok (.iconst 2, 1) := dk_5 (dk_at dksJ3_grow_0 13 rfl rfl)
theorem dJ3_grow_14 : decode cJ3_grow 14 = .ok (.iadd, 1) := dk_96 (dk_at dksJ3_grow_0 14 rfl rfl)
theorem dJ3_grow_15 : decode cJ3_grow 15 = .ok (.goto 6, 3) := dk_167 0 6 (dk_at dksJ3_grow_0 15 rfl rfl)
theorem dJ3_grow_18 : decode cJ3_grow 18 = .ok (.iload_n 2, 1) := dk_28 (dk_at dksJ3_grow_0 18 rfl rfl)
theorem dJ3_grow_19 : decode cJ3_grow 19 = .ok (.iconst 1, 1) := dk_4 (dk_at dksJ3_grow_0 19 rfl rfl)
theorem dJ3_grow_20 : decode cJ3_grow 20 = .ok (.ishr, 1) := dk_122 (dk_at dksJ3_grow_0 20 rfl rfl)
theorem dJ3_grow_21 : decode cJ3_grow 21 = .ok (.istore 4, 2) := dk_54 4 (dk_at dksJ3_grow_0 21 rfl rfl)
theorem dJ3_grow_23 : decode cJ3_grow 23 = .ok (.iload 4, 2) := dk_21 4 (dk_at dksJ3_grow_1 0 rfl rfl)
theorem dJ3_grow_25 : decode cJ3_grow 25 = .ok (.iload_n 1, 1) := dk_27 (dk_at dksJ3_grow_1 2 rfl rfl)
theorem dJ3_grow_26 : decode cJ3_grow 26 = .ok (.if_icmp .lt 15, 3) := dk_161 0 15 (dk_at dksJ3_grow_1 3 rfl rfl)
theorem dJ3_grow_29 : decode cJ3_grow 29 = .ok (.iload_n 2, 1) := dk_28 (dk_at dksJ3_grow_1 6 rfl rfl)
theorem dJ3_grow_30 : decode cJ3_grow 30 = .ok (.iload 4, 2) := dk_21 4 (dk_at dksJ3_grow_1 7 rfl rfl)
theorem dJ3_grow_32 : decode cJ3_grow 32 = .ok (.iadd, 1) := dk_96 (dk_at dksJ3_grow_1 9 rfl rfl)
theorem dJ3_grow_33 : decode cJ3_grow 33 = .ok (.dup, 1) := dk_89 (dk_at dksJ3_grow_1 10 rfl rfl)
theorem dJ3_grow_34 : decode cJ3_grow 34 = .ok (.istore_n 3, 1) := dk_62 (dk_at dksJ3_grow_1 11 rfl rfl)
theorem dJ3_grow_35 : decode cJ3_grow 35 = .ok (.ldc 9, 2) := dk_18 9 (dk_at dksJ3_grow_1 12 rfl rfl)
theorem dJ3_grow_37 : decode cJ3_grow 37 = .ok (.isub, 1) := dk_100 (dk_at dksJ3_grow_1 14 rfl rfl)
theorem dJ3_grow_38 : decode cJ3_grow 38 = .ok (.ifCond .le 11, 3) := dk_158 0 11 (dk_at dksJ3_grow_1 15 rfl rfl)
theorem dJ3_grow_41 : decode cJ3_grow 41 = .ok (.aload_n 0, 1) := dk_42 (dk_at dksJ3_grow_1 18 rfl rfl)
theorem dJ3_grow_42 : decode cJ3_grow 42 = .ok (.iload_n 1, 1) := dk_27 (dk_at dksJ3_grow_1 19 rfl rfl)
theorem dJ3_grow_43 : decode cJ3_grow 43 = .ok (.iload 4, 2) := dk_21 4 (dk_at dksJ3_grow_1 20 rfl rfl)
theorem dJ3_grow_45 : decode cJ3_grow 45 = .ok (.invokevirtual 10, 3) := dk_182 0 10 (dk_at dksJ3_grow_2 0 rfl rfl)
theorem dJ3_grow_48 : decode cJ3_grow 48 = .ok (.istore_n 3, 1) := dk_62 (dk_at dksJ3_grow_2 3 rfl rfl)
theorem dJ3_grow_49 : decode cJ3_grow 49 = .ok (.aload_n 0, 1) := dk_42 (dk_at dksJ3_grow_2 4 rfl rfl)
theorem dJ3_grow_50 : decode cJ3_grow 50 = .ok (.aload_n 0, 1) := dk_42 (dk_at dksJ3_grow_2 5 rfl rfl)
theorem dJ3_grow_51 : decode cJ3_grow 51 = .ok (.getfield 3, 3) := dk_180 0 3 (dk_at dksJ3_grow_2 6 rfl rfl)
theorem dJ3_grow_54 : decode cJ3_grow 54 = .ok (.iload_n 3, 1) := dk_29 (dk_at dksJ3_grow_2 9 rfl rfl)
theorem dJ3_grow_55 : decode cJ3_grow 55 = .ok (.invokestatic 14, 3) := dk_184 0 14 (dk_at dksJ3_grow_2 10 rfl rfl)
theorem dJ3_grow_58 : decode cJ3_grow 58 = .ok (.dup_x1, 1) := dk_90 (dk_at dksJ3_grow_2 13 rfl rfl)
theorem dJ3_grow_59 : decode cJ3_grow 59 = .ok (.putfield 3, 3) := dk_181 0 3 (dk_at dksJ3_grow_2 14 rfl rfl)
theorem dJ3_grow_62 : decode cJ3_grow 62 = .ok (.astore 5, 2) := dk_58 5 (dk_at dksJ3_grow_2 17 rfl rfl)
theorem dJ3_grow_64 : decode cJ3_grow 64 = .ok (.aload_n 0, 1) := dk_42 (dk_at dksJ3_grow_2 19 rfl rfl)
theorem dJ3_grow_65 : decode cJ3_grow 65 = .ok (.getfield 20, 3) := dk_180 0 20 (dk_at dksJ3_grow_2 20 rfl rfl)
theorem dJ3_grow_68 : decode cJ3_grow 68 = .ok (.aload_n 0, 1) := dk_42 (dk_at dksJ3_grow_2 23 rfl rfl)
theorem dJ3_grow_69 : decode cJ3_grow 69 = .ok (.getfield 24, 3) := dk_180 0 24 (dk_at dksJ3_grow_3 0 rfl rfl)
theorem dJ3_grow_72 : decode cJ3_grow 72 = .ok (.if_icmp .lt 24, 3) := dk_161 0 24 (dk_at dksJ3_grow_3 3 rfl rfl)
theorem dJ3_grow_75 : decode cJ3_grow 75 = .ok (.aload_n 0, 1) := dk_42 (dk_at dksJ3_grow_3 6 rfl rfl)
theorem dJ3_grow_76 : decode cJ3_grow 76 = .ok (.getfield 20, 3) := dk_180 0 20 (dk_at dksJ3_grow_3 7 rfl rfl)
theorem dJ3_grow_79 : decode cJ3_grow 79 = .ok (.aload_n 0, 1) := dk_42 (dk_at dksJ3_grow_3 10 rfl rfl)
theorem dJ3_grow_80 : decode cJ3_grow 80 = .ok (.getfield 24, 3) := dk_180 0 24 (dk_at dksJ3_grow_3 11 rfl rfl)
theorem dJ3_grow_83 : decode cJ3_grow 83 = .ok (.if_icmp .ne 81, 3) := dk_160 0 81 (dk_at dksJ3_grow_3 14 rfl rfl)
theorem dJ3_grow_86 : decode cJ3_grow 86 = .ok (.aload 5, 2) := dk_25 5 (dk_at dksJ3_grow_3 17 rfl rfl)
theorem dJ3_grow_88 : decode cJ3_grow 88 = .ok (.aload_n 0, 1) := dk_42 (dk_at dksJ3_grow_3 19 rfl rfl)
theorem dJ3_grow_89 : decode cJ3_grow 89 = .ok (.getfield 24, 3) := dk_180 0 24 (dk_at dksJ3_grow_3 20 rfl rfl)
theorem dJ3_grow_92 : decode cJ3_grow 92 = .ok (.aaload, 1) := dk_50 (dk_at dksJ3_grow_3 23 rfl rfl)
theorem dJ3_grow_93 : decode cJ3_grow 93 = .ok (.ifnull 71, 3) := dk_198 0 71 (dk_at dksJ3_grow_4 0 rfl rfl)
theorem dJ3_grow_96 : decode cJ3_grow 96 = .ok (.iload_n 3, 1) := dk_29 (dk_at dksJ3_grow_4 3 rfl rfl)
theorem dJ3_grow_97 : decode cJ3_grow 97 = .ok (.iload_n 2, 1) := dk_28 (dk_at dksJ3_grow_4 4 rfl rfl)
theorem dJ3_grow_98 : decode cJ3_grow 98 = .ok (.isub, 1) := dk_100 (dk_at dksJ3_grow_4 5 rfl rfl)
theorem dJ3_grow_99 : decode cJ3_grow 99 = .ok (.istore 6, 2) := dk_54 6 (dk_at dksJ3_grow_4 6 rfl rfl)
theorem dJ3_grow_101 : decode cJ3_grow 101 = .ok (.aload 5, 2) := dk_25 5 (dk_at dksJ3_grow_4 8 rfl rfl)
theorem dJ3_grow_103 : decode cJ3_grow 103 = .ok (.aload_n 0, 1) := dk_42 (dk_at dksJ3_grow_4 10 rfl rfl)
theorem dJ3_grow_104 : decode cJ3_grow 104 = .ok (.getfield 24, 3) := dk_180 0 24 (dk_at dksJ3_grow_4 11 rfl rfl)
theorem dJ3_grow_107 : decode cJ3_grow 107 = .ok (.aload 5, 2) := dk_25 5 (dk_at dksJ3_grow_4 14 rfl rfl)
theorem dJ3_grow_109 : decode cJ3_grow 109 = .ok (.aload_n 0, 1) := dk_42 (dk_at dksJ3_grow_4 16 rfl rfl)
theorem dJ3_grow_110 : decode cJ3_grow 110 = .ok (.getfield 24, 3) := dk_180 0 24 (dk_at dksJ3_grow_4 17 rfl rfl)
theorem dJ3_grow_113 : decode cJ3_grow 113 = .ok (.iload 6, 2) := dk_21 6 (dk_at dksJ3_grow_4 20 rfl rfl)
theorem dJ3_grow_115 : decode cJ3_grow 115 = .ok (.iadd, 1) := dk_96 (dk_at dksJ3_grow_4 22 rfl rfl)
theorem dJ3_grow_116 : decode cJ3_grow 116 = .ok (.iload_n 2, 1) := dk_28 (dk_at dksJ3_grow_4 23 rfl rfl)
theorem dJ3_grow_117 : decode cJ3_grow 117 = .ok (.aload_n 0, 1) := dk_42 (dk_at dksJ3_grow_5 0 rfl rfl)
theorem dJ3_grow_118 : decode cJ3_grow 118 = .ok (.getfield 24, 3) := dk_180 0 24 (dk_at dksJ3_grow_5 1 rfl rfl)
theorem dJ3_grow_121 : decode cJ3_grow 121 = .ok (.isub, 1) := dk_100 (dk_at dksJ3_grow_5 4 rfl rfl)
theorem dJ3_grow_122 : decode cJ3_grow 122 = .ok (.invokestatic 27, 3) := dk_184 0 27 (dk_at dksJ3_grow_5 5 rfl rfl)
theorem dJ3_grow_125 : decode cJ3_grow 125 = .ok (.aload_n 0, 1) := dk_42 (dk_at dksJ3_grow_5 8 rfl rfl)
theorem dJ3_grow_126 : decode cJ3_grow 126 = .ok (.getfield 24, 3) := dk_180 0 24 (dk_at dksJ3_grow_5 9 rfl rfl)
theorem dJ3_grow_129 : decode cJ3_grow 129 = .ok (.istore 7, 2) := dk_54 7 (dk_at dksJ3_grow_5 12 rfl rfl)
theorem dJ3_grow_131 : decode cJ3_grow 131 = .ok (.aload_n 0, 1) := dk_42 (dk_at dksJ3_grow_5 14 rfl rfl)
theorem dJ3_grow_132 : decode cJ3_grow 132 = .ok (.dup, 1) := dk_89 (dk_at dksJ3_grow_5 15 rfl rfl)
theorem dJ3_grow_133 : decode cJ3_grow 133 = .ok (.getfield 24, 3) := dk_180 0 24 (dk_at dksJ3_grow_5 16 rfl rfl)
theorem dJ3_grow_136 : decode cJ3_grow 136 = .ok (.iload 6, 2) := dk_21 6 (dk_at dksJ3_grow_5 19 rfl rfl)
theorem dJ3_grow_138 : decode cJ3_grow 138 = .ok (.iadd, 1) := dk_96 (dk_at dksJ3_grow_5 21 rfl rfl)
theorem dJ3_grow_139 : decode cJ3_grow 139 = .ok (.dup_x1, 1) := dk_90 (dk_at dksJ3_grow_5 22 rfl rfl)
theorem dJ3_grow_140 : decode cJ3_grow 140 = .ok (.putfield 24, 3) := dk_181 0 24 (dk_at dksJ3_grow_6 0 rfl rfl)
theorem dJ3_grow_143 : decode cJ3_grow 143 = .ok (.istore 8, 2) := dk_54 8 (dk_at dksJ3_grow_6 3 rfl rfl)
theorem dJ3_grow_145 : decode cJ3_grow 145 = .ok (.iload 7, 2) := dk_21 7 (dk_at dksJ3_grow_6 5 rfl rfl)
theorem dJ3_grow_147 : decode cJ3_grow 147 = .ok (.iload 8, 2) := dk_21 8 (dk_at dksJ3_grow_6 7 rfl rfl)
theorem dJ3_grow_149 : decode cJ3_grow 149 = .ok (.if_icmp .ge 15, 3) := dk_162 0 15 (dk_at dksJ3_grow_6 9 rfl rfl)
theorem dJ3_grow_152 : decode cJ3_grow 152 = .ok (.aload 5, 2) := dk_25 5 (dk_at dksJ3_grow_6 12 rfl rfl)
theorem dJ3_grow_154 : decode cJ3_grow 154 = .ok (.iload 7, 2) := dk_21 7 (dk_at dksJ3_grow_6 14 rfl rfl)
theorem dJ3_grow_156 : decode cJ3_grow 156 = .ok (.aconst_null, 1) := dk_1 (dk_at dksJ3_grow_6 16 rfl rfl)
theorem dJ3_grow_157 : decode cJ3_grow 157 = .ok (.aastore, 1) := dk_83 (dk_at dksJ3_grow_6 17 rfl rfl)
theorem dJ3_grow_158 : decode cJ3_grow 158 = .ok (.iinc 7 1, 3) := dk_132 7 1 (dk_at dksJ3_grow_6 18 rfl rfl)
theorem dJ3_grow_161 : decode cJ3_grow 161 = .ok (.goto (-16), 3) := dk_167 255 240 (dk_at dksJ3_grow_6 21 rfl rfl)
theorem dJ3_grow_164 : decode cJ3_grow 164 = .ok (.return_, 1) := dk_177 (dk_at dksJ3_grow_7 0 rfl rfl)
abbrev cJ3_newCapacity : ByteArray := prog_62_method_2_code
def yJ3_newCapacity : MethodName := ⟨RJ3, "newCapacity", "(II)I"⟩
def dkwJ3_newCapacity_2 : List UInt8 := [18, 9, 100, 156, 0, 9, 29, 28, 96, 167, 0, 5, 18, 9, 172]
abbrev dktJ3_newCapacity_2 : List UInt8 := dkwJ3_newCapacity_2 ++ []
def dkwJ3_newCapacity_1 : List UInt8 := [187, 0, 33, 89, 18, 35, 183, 0, 37, 191, 18, 41, 172, 27, 28, 164, 0, 6, 21, 4, 172, 29, 28, 96]
abbrev dktJ3_newCapacity_1 : List UInt8 := dkwJ3_newCapacity_1 ++ dktJ3_newCapacity_2
def dkwJ3_newCapacity_0 : List UInt8 := [42, 180, 0, 3, 190, 62, 29, 27, 96, 89, 54, 4, 18, 9, 100, 158, 0, 21, 21, 4, 156, 0, 13]
abbrev dktJ3_newCapacity_0 : List UInt8 := dkwJ3_newCapacity_0 ++ dktJ3_newCapacity_1
theorem dksJ3_newCapacity_0 : cJ3_newCapacity.data.toList.drop 0 = dktJ3_newCapacity_0 := by decide +kernel
theorem dksJ3_newCapacity_1 : cJ3_newCapacity.data.toList.drop 23 = dktJ3_newCapacity_1 := dk_seg dksJ3_newCapacity_0 23 rfl rfl
theorem dksJ3_newCapacity_2 : cJ3_newCapacity.data.toList.drop 47 = dktJ3_newCapacity_2 := dk_seg dksJ3_newCapacity_1 24 rfl rfl
theorem dJ3_newCapacity_0 : decode cJ3_newCapacity 0 = .ok (.aload_n 0, 1) := dk_42 (dk_at dksJ3_newCapacity_0 0 rfl rfl)
theorem dJ3_newCapacity_1 : decode cJ3_newCapacity 1 = .ok (.getfield 3, 3) := dk_180 0 3 (dk_at dksJ3_newCapacity_0 1 rfl rfl)
theorem dJ3_newCapacity_4 : decode cJ3_newCapacity 4 = .ok (.arraylength, 1) := dk_190 (dk_at dksJ3_newCapacity_0 4 rfl rfl)
theorem dJ3_newCapacity_5 : decode cJ3_newCapacity 5 = .ok (.istore_n 3, 1) := dk_62 (dk_at dksJ3_newCapacity_0 5 rfl rfl)
theorem dJ3_newCapacity_6 : decode cJ3_newCapacity 6 = .ok (.iload_n 3, 1) := dk_29 (dk_at dksJ3_newCapacity_0 6 rfl rfl)
theorem dJ3_newCapacity_7 : decode cJ3_newCapacity 7 = .ok (.iload_n 1, 1) := dk_27 (dk_at dksJ3_newCapacity_0 7 rfl rfl)
theorem dJ3_newCapacity_8 : decode cJ3_newCapacity 8 = .ok (.iadd, 1) := dk_96 (dk_at dksJ3_newCapacity_0 8 rfl rfl)
theorem dJ3_newCapacity_9 : decode cJ3_newCapacity 9 = .ok (.dup, 1) := dk_89 (dk_at dksJ3_newCapacity_0 9 rfl rfl)
theorem dJ3_newCapacity_10 : decode cJ3_newCapacity 10 = .ok (.istore 4, 2) := dk_54 4 (dk_at dksJ3_newCapacity_0 10 rfl rfl)
theorem dJ3_newCapacity_12 : decode cJ3_newCapacity 12 = .ok (.ldc 9, 2) := dk_18 9 (dk_at dksJ3_newCapacity_0 12 rfl rfl)
theorem dJ3_newCapacity_14 : decode cJ3_newCapacity 14 = .ok (.isub, 1) := dk_100 (dk_at dksJ3_newCapacity_0 14 rfl rfl)
theorem dJ3_newCapacity_15 : decode cJ3_newCapacity 15 = .ok (.ifCond .le 21, 3) := dk_158 0 21 (dk_at dksJ3_newCapacity_0 15 rfl rfl)
theorem dJ3_newCapacity_18 : decode cJ3_newCapacity 18 = .ok (.iload 4, 2) := dk_21 4 (dk_at dksJ3_newCapacity_0 18 rfl rfl)
theorem dJ3_newCapacity_20 : decode cJ3_newCapacity 20 = .ok (.ifCond .ge 13, 3) := dk_156 0 13 (dk_at dksJ3_newCapacity_0 20 rfl rfl)
theorem dJ3_newCapacity_23 : decode cJ3_newCapacity 23 = .ok (.new 33, 3) := dk_187 0 33 (dk_at dksJ3_newCapacity_1 0 rfl rfl)
theorem dJ3_newCapacity_26 : decode cJ3_newCapacity 26 = .ok (.dup, 1) := dk_89 (dk_at dksJ3_newCapacity_1 3 rfl rfl)
theorem dJ3_newCapacity_27 : decode cJ3_newCapacity 27 = .ok (.ldc 35, 2) := dk_18 35 (dk_at dksJ3_newCapacity_1 4 rfl rfl)
theorem dJ3_newCapacity_29 : decode cJ3_newCapacity 29 = .ok (.invokespecial 37, 3) := dk_183 0 37 (dk_at dksJ3_newCapacity_1 6 rfl rfl)
theorem dJ3_newCapacity_32 : decode cJ3_newCapacity 32 = .ok (.athrow, 1) := dk_191 (dk_at dksJ3_newCapacity_1 9 rfl rfl)
theorem dJ3_newCapacity_33 : decode cJ3_newCapacity 33 = .ok (.ldc 41, 2) := dk_18 41 (dk_at dksJ3_newCapacity_1 10 rfl rfl)
theorem dJ3_newCapacity_35 : decode cJ3_newCapacity 35 = .ok (.ireturn, 1) := dk_172 (dk_at dksJ3_newCapacity_1 12 rfl rfl)
theorem dJ3_newCapacity_36 : decode cJ3_newCapacity 36 = .ok (.iload_n 1, 1) := dk_27 (dk_at dksJ3_newCapacity_1 13 rfl rfl)
theorem dJ3_newCapacity_37 : decode cJ3_newCapacity 37 = .ok (.iload_n 2, 1) := dk_28 (dk_at dksJ3_newCapacity_1 14 rfl rfl)
theorem dJ3_newCapacity_38 : decode cJ3_newCapacity 38 = .ok (.if_icmp .le 6, 3) := dk_164 0 6 (dk_at dksJ3_newCapacity_1 15 rfl rfl)
theorem dJ3_newCapacity_41 : decode cJ3_newCapacity 41 = .ok (.iload 4, 2) := dk_21 4 (dk_at dksJ3_newCapacity_1 18 rfl rfl)
theorem dJ3_newCapacity_43 : decode cJ3_newCapacity 43 = .ok (.ireturn, 1) := dk_172 (dk_at dksJ3_newCapacity_1 20 rfl rfl)
theorem dJ3_newCapacity_44 : decode cJ3_newCapacity 44 = .ok (.iload_n 3, 1) := dk_29 (dk_at dksJ3_newCapacity_1 21 rfl rfl)
theorem dJ3_newCapacity_45 : decode cJ3_newCapacity 45 = .ok (.iload_n 2, 1) := dk_28 (dk_at dksJ3_newCapacity_1 22 rfl rfl)
theorem dJ3_newCapacity_46 : decode cJ3_newCapacity 46 = .ok (.iadd, 1) := dk_96 (dk_at dksJ3_newCapacity_1 23 rfl rfl)
theorem dJ3_newCapacity_47 : decode cJ3_newCapacity 47 = .ok (.ldc 9, 2) := dk_18 9 (dk_at dksJ3_newCapacity_2 0 rfl rfl)
theorem dJ3_newCapacity_49 : decode cJ3_newCapacity 49 = .ok (.isub, 1) := dk_100 (dk_at dksJ3_newCapacity_2 2 rfl rfl)
theorem dJ3_newCapacity_50 : decode cJ3_newCapacity 50 = .ok (.ifCond .ge 9, 3) := dk_156 0 9 (dk_at dksJ3_newCapacity_2 3 rfl rfl)
theorem dJ3_newCapacity_53 : decode cJ3_newCapacity 53 = .ok (.iload_n 3, 1) := dk_29 (dk_at dksJ3_newCapacity_2 6 rfl rfl)
theorem dJ3_newCapacity_54 : decode cJ3_newCapacity 54 = .ok (.iload_n 2, 1) := dk_28 (dk_at dksJ3_newCapacity_2 7 rfl rfl)
theorem dJ3_newCapacity_55 : decode cJ3_newCapacity 55 = .ok (.iadd, 1) := dk_96 (dk_at dksJ3_newCapacity_2 8 rfl rfl)
theorem dJ3_newCapacity_56 : decode cJ3_newCapacity 56 = .ok (.goto 5, 3) := dk_167 0 5 (dk_at dksJ3_newCapacity_2 9 rfl rfl)
theorem dJ3_newCapacity_59 : decode cJ3_newCapacity 59 = .ok (.ldc 9, 2) := dk_18 9 (dk_at dksJ3_newCapacity_2 12 rfl rfl)
theorem dJ3_newCapacity_61 : decode cJ3_newCapacity 61 = .ok (.ireturn, 1) := dk_172 (dk_at dksJ3_newCapacity_2 14 rfl rfl)
abbrev cJ3_isEmpty : ByteArray := prog_62_method_38_code
def yJ3_isEmpty : MethodName := ⟨RJ3, "isEmpty", "()Z"⟩
def dkwJ3_isEmpty_0 : List UInt8 := [42, 180, 0, 24, 42, 180, 0, 20, 160, 0, 7, 4, 167, 0, 4, 3, 172]
abbrev dktJ3_isEmpty_0 : List UInt8 := dkwJ3_isEmpty_0 ++ []
theorem dksJ3_isEmpty_0 : cJ3_isEmpty.data.toList.drop 0 = dktJ3_isEmpty_0 := by decide +kernel
theorem dJ3_isEmpty_0 : decode cJ3_isEmpty 0 = .ok (.aload_n 0, 1) := dk_42 (dk_at dksJ3_isEmpty_0 0 rfl rfl)
theorem dJ3_isEmpty_1 : decode cJ3_isEmpty 1 = .ok (.getfield 24, 3) := dk_180 0 24 (dk_at dksJ3_isEmpty_0 1 rfl rfl)
theorem dJ3_isEmpty_4 : decode cJ3_isEmpty 4 = .ok (.aload_n 0, 1) := dk_42 (dk_at dksJ3_isEmpty_0 4 rfl rfl)
theorem dJ3_isEmpty_5 : decode cJ3_isEmpty 5 = .ok (.getfield 20, 3) := dk_180 0 20 (dk_at dksJ3_isEmpty_0 5 rfl rfl)
theorem dJ3_isEmpty_8 : decode cJ3_isEmpty 8 = .ok (.if_icmp .ne 7, 3) := dk_160 0 7 (dk_at dksJ3_isEmpty_0 8 rfl rfl)
theorem dJ3_isEmpty_11 : decode cJ3_isEmpty 11 = .ok (.iconst 1, 1) := dk_4 (dk_at dksJ3_isEmpty_0 11 rfl rfl)
theorem dJ3_isEmpty_12 : decode cJ3_isEmpty 12 = .ok (.goto 4, 3) := dk_167 0 4 (dk_at dksJ3_isEmpty_0 12 rfl rfl)
theorem dJ3_isEmpty_15 : decode cJ3_isEmpty 15 = .ok (.iconst 0, 1) := dk_3 (dk_at dksJ3_isEmpty_0 15 rfl rfl)
theorem dJ3_isEmpty_16 : decode cJ3_isEmpty 16 = .ok (.ireturn, 1) := dk_172 (dk_at dksJ3_isEmpty_0 16 rfl rfl)
abbrev cJ3_removeLast : ByteArray := prog_62_method_19_code
def yJ3_removeLast : MethodName := ⟨RJ3, "removeLast", "()Ljava/lang/Object;"⟩
def dkwJ3_removeLast_0 : List UInt8 := [42, 182, 0, 100, 76, 43, 199, 0, 11, 187, 0, 97, 89, 183, 0, 99, 191, 43, 176]
abbrev dktJ3_removeLast_0 : List UInt8 := dkwJ3_removeLast_0 ++ []
theorem dksJ3_removeLast_0 : cJ3_removeLast.data.toList.drop 0 = dktJ3_removeLast_0 := by decide +kernel
theorem dJ3_removeLast_0 : decode cJ3_removeLast 0 = .ok (.aload_n 0, 1) := dk_42 (dk_at dksJ3_removeLast_0 0 rfl rfl)
theorem dJ3_removeLast_1 : decode cJ3_removeLast 1 = .ok (.invokevirtual 100, 3) := dk_182 0 100 (dk_at dksJ3_removeLast_0 1 rfl rfl)
theorem dJ3_removeLast_4 : decode cJ3_removeLast 4 = .ok (.astore_n 1, 1) := dk_76 (dk_at dksJ3_removeLast_0 4 rfl rfl)
theorem dJ3_removeLast_5 : decode cJ3_removeLast 5 = .ok (.aload_n 1, 1) := dk_43 (dk_at dksJ3_removeLast_0 5 rfl rfl)
theorem dJ3_removeLast_6 : decode cJ3_removeLast 6 = .ok (.ifnonnull 11, 3) := dk_199 0 11 (dk_at dksJ3_removeLast_0 6 rfl rfl)
theorem dJ3_removeLast_9 : decode cJ3_removeLast 9 = .ok (.new 97, 3) := dk_187 0 97 (dk_at dksJ3_removeLast_0 9 rfl rfl)
theorem dJ3_removeLast_12 : decode cJ3_removeLast 12 = .ok (.dup, 1) := dk_89 (dk_at dksJ3_removeLast_0 12 rfl rfl)
theorem dJ3_removeLast_13 : decode cJ3_removeLast 13 = .ok (.invokespecial 99, 3) := dk_183 0 99 (dk_at dksJ3_removeLast_0 13 rfl rfl)
theorem dJ3_removeLast_16 : decode cJ3_removeLast 16 = .ok (.athrow, 1) := dk_191 (dk_at dksJ3_removeLast_0 16 rfl rfl)
theorem dJ3_removeLast_17 : decode cJ3_removeLast 17 = .ok (.aload_n 1, 1) := dk_43 (dk_at dksJ3_removeLast_0 17 rfl rfl)
theorem dJ3_removeLast_18 : decode cJ3_removeLast 18 = .ok (.areturn, 1) := dk_176 (dk_at dksJ3_removeLast_0 18 rfl rfl)
abbrev cJ3_pollLast : ByteArray := prog_62_method_21_code
def yJ3_pollLast : MethodName := ⟨RJ3, "pollLast", "()Ljava/lang/Object;"⟩
def dkwJ3_pollLast_1 : List UInt8 := [198, 0, 12, 43, 42, 28, 90, 181, 0, 20, 1, 83, 45, 176]
abbrev dktJ3_pollLast_1 : List UInt8 := dkwJ3_pollLast_1 ++ []
def dkwJ3_pollLast_0 : List UInt8 := [42, 180, 0, 3, 89, 76, 42, 180, 0, 20, 43, 190, 184, 0, 68, 89, 61, 184, 0, 103, 78, 45]
abbrev dktJ3_pollLast_0 : List UInt8 := dkwJ3_pollLast_0 ++ dktJ3_pollLast_1
theorem dksJ3_pollLast_0 : cJ3_pollLast.data.toList.drop 0 = dktJ3_pollLast_0 := by decide +kernel
theorem dksJ3_pollLast_1 : cJ3_pollLast.data.toList.drop 22 = dktJ3_pollLast_1 := dk_seg dksJ3_pollLast_0 22 rfl rfl
theorem dJ3_pollLast_0 : decode cJ3_pollLast 0 = .ok (.aload_n 0, 1) := dk_42 (dk_at dksJ3_pollLast_0 0 rfl rfl)
theorem dJ3_pollLast_1 : decode cJ3_pollLast 1 = .ok (.getfield 3, 3) := dk_180 0 3 (dk_at dksJ3_pollLast_0 1 rfl rfl)
theorem dJ3_pollLast_4 : decode cJ3_pollLast 4 = .ok (.dup, 1) := dk_89 (dk_at dksJ3_pollLast_0 4 rfl rfl)
theorem dJ3_pollLast_5 : decode cJ3_pollLast 5 = .ok (.astore_n 1, 1) := dk_76 (dk_at dksJ3_pollLast_0 5 rfl rfl)
theorem dJ3_pollLast_6 : decode cJ3_pollLast 6 = .ok (.aload_n 0, 1) := dk_42 (dk_at dksJ3_pollLast_0 6 rfl rfl)
theorem dJ3_pollLast_7 : decode cJ3_pollLast 7 = .ok (.getfield 20, 3) := dk_180 0 20 (dk_at dksJ3_pollLast_0 7 rfl rfl)
theorem dJ3_pollLast_10 : decode cJ3_pollLast 10 = .ok (.aload_n 1, 1) := dk_43 (dk_at dksJ3_pollLast_0 10 rfl rfl)
theorem dJ3_pollLast_11 : decode cJ3_pollLast 11 = .ok (.arraylength, 1) := dk_190 (dk_at dksJ3_pollLast_0 11 rfl rfl)
theorem dJ3_pollLast_12 : decode cJ3_pollLast 12 = .ok (.invokestatic 68, 3) := dk_184 0 68 (dk_at dksJ3_pollLast_0 12 rfl rfl)
theorem dJ3_pollLast_15 : decode cJ3_pollLast 15 = .ok (.dup, 1) := dk_89 (dk_at dksJ3_pollLast_0 15 rfl rfl)
theorem dJ3_pollLast_16 : decode cJ3_pollLast 16 = .ok (.istore_n 2, 1) := dk_61 (dk_at dksJ3_pollLast_0 16 rfl rfl)
theorem dJ3_pollLast_17 : decode cJ3_pollLast 17 = .ok (.invokestatic 103, 3) := dk_184 0 103 (dk_at dksJ3_pollLast_0 17 rfl rfl)
theorem dJ3_pollLast_20 : decode cJ3_pollLast 20 = .ok (.astore_n 3, 1) := dk_78 (dk_at dksJ3_pollLast_0 20 rfl rfl)
theorem dJ3_pollLast_21 : decode cJ3_pollLast 21 = .ok (.aload_n 3, 1) := dk_45 (dk_at dksJ3_pollLast_0 21 rfl rfl)
theorem dJ3_pollLast_22 : decode cJ3_pollLast 22 = .ok (.ifnull 12, 3) := dk_198 0 12 (dk_at dksJ3_pollLast_1 0 rfl rfl)
theorem dJ3_pollLast_25 : decode cJ3_pollLast 25 = .ok (.aload_n 1, 1) := dk_43 (dk_at dksJ3_pollLast_1 3 rfl rfl)
theorem dJ3_pollLast_26 : decode cJ3_pollLast 26 = .ok (.aload_n 0, 1) := dk_42 (dk_at dksJ3_pollLast_1 4 rfl rfl)
theorem dJ3_pollLast_27 : decode cJ3_pollLast 27 = .ok (.iload_n 2, 1) := dk_28 (dk_at dksJ3_pollLast_1 5 rfl rfl)
theorem dJ3_pollLast_28 : decode cJ3_pollLast 28 = .ok (.dup_x1, 1) := dk_90 (dk_at dksJ3_pollLast_1 6 rfl rfl)
theorem dJ3_pollLast_29 : decode cJ3_pollLast 29 = .ok (.putfield 20, 3) := dk_181 0 20 (dk_at dksJ3_pollLast_1 7 rfl rfl)
theorem dJ3_pollLast_32 : decode cJ3_pollLast 32 = .ok (.aconst_null, 1) := dk_1 (dk_at dksJ3_pollLast_1 10 rfl rfl)
theorem dJ3_pollLast_33 : decode cJ3_pollLast 33 = .ok (.aastore, 1) := dk_83 (dk_at dksJ3_pollLast_1 11 rfl rfl)
theorem dJ3_pollLast_34 : decode cJ3_pollLast 34 = .ok (.aload_n 3, 1) := dk_45 (dk_at dksJ3_pollLast_1 12 rfl rfl)
theorem dJ3_pollLast_35 : decode cJ3_pollLast 35 = .ok (.areturn, 1) := dk_176 (dk_at dksJ3_pollLast_1 13 rfl rfl)
abbrev cJ3_dec : ByteArray := prog_62_method_7_code
def yJ3_dec : MethodName := ⟨RJ3, "dec", "(II)I"⟩
def dkwJ3_dec_0 : List UInt8 := [132, 0, 255, 26, 156, 0, 7, 27, 4, 100, 59, 26, 172]
abbrev dktJ3_dec_0 : List UInt8 := dkwJ3_dec_0 ++ []
theorem dksJ3_dec_0 : cJ3_dec.data.toList.drop 0 = dktJ3_dec_0 := by decide +kernel
theorem dJ3_dec_0 : decode cJ3_dec 0 = .ok (.iinc 0 (-1), 3) := dk_132 0 255 (dk_at dksJ3_dec_0 0 rfl rfl)
theorem dJ3_dec_3 : decode cJ3_dec 3 = .ok (.iload_n 0, 1) := dk_26 (dk_at dksJ3_dec_0 3 rfl rfl)
theorem dJ3_dec_4 : decode cJ3_dec 4 = .ok (.ifCond .ge 7, 3) := dk_156 0 7 (dk_at dksJ3_dec_0 4 rfl rfl)
theorem dJ3_dec_7 : decode cJ3_dec 7 = .ok (.iload_n 1, 1) := dk_27 (dk_at dksJ3_dec_0 7 rfl rfl)
theorem dJ3_dec_8 : decode cJ3_dec 8 = .ok (.iconst 1, 1) := dk_4 (dk_at dksJ3_dec_0 8 rfl rfl)
theorem dJ3_dec_9 : decode cJ3_dec 9 = .ok (.isub, 1) := dk_100 (dk_at dksJ3_dec_0 9 rfl rfl)
theorem dJ3_dec_10 : decode cJ3_dec 10 = .ok (.istore_n 0, 1) := dk_59 (dk_at dksJ3_dec_0 10 rfl rfl)
theorem dJ3_dec_11 : decode cJ3_dec 11 = .ok (.iload_n 0, 1) := dk_26 (dk_at dksJ3_dec_0 11 rfl rfl)
theorem dJ3_dec_12 : decode cJ3_dec 12 = .ok (.ireturn, 1) := dk_172 (dk_at dksJ3_dec_0 12 rfl rfl)
theorem q78 : (Jvm.Cond.initialized "java/util/ArrayDeque") ∈ lw_all := lw_g (lw_at lw_m1 6 rfl) rfl
theorem q202 : (Jvm.Cond.instantiable "java/util/ArrayDeque" (3 : Nat)) ∈ lw_all := lw_g (lw_at lw_m1 130 rfl) rfl
theorem q204 : (Jvm.Cond.instanceMethod ({ cls := "java/util/ArrayDeque", name := "<init>", desc := "()V" } : Jvm.MethodName)) ∈ lw_all := lw_g (lw_at lw_m1 132 rfl) rfl
theorem q205 : (Jvm.Cond.code ({ cls := "java/util/ArrayDeque", name := "<init>", desc := "()V" } : Jvm.MethodName) prog_62_method_3_code (1 : Nat) (Option.none : Option Jvm.ClassFile.FieldType)) ∈ lw_all := lw_g (lw_at lw_m1 133 rfl) rfl
theorem q206 : (Jvm.Cond.methodLink "java/util/ArrayDeque" (42 : Nat) ({ cls := "java/util/AbstractCollection", name := "<init>", desc := "()V" } : Jvm.MethodName)) ∈ lw_all := lw_g (lw_at lw_m1 134 rfl) rfl
theorem q207 : (Jvm.Cond.classLink "java/util/ArrayDeque" (47 : Nat) "java/lang/Object") ∈ lw_all := lw_g (lw_at lw_m1 135 rfl) rfl
theorem q209 : (Jvm.Cond.fieldLink "java/util/ArrayDeque" (3 : Nat) "java/util/ArrayDeque" "elements" "[Ljava/lang/Object;") ∈ lw_all := lw_g (lw_at lw_m1 137 rfl) rfl
theorem q210 : (Jvm.Cond.fieldLink "java/util/ArrayDeque" (24 : Nat) "java/util/ArrayDeque" "head" "I") ∈ lw_all := lw_g (lw_at lw_m1 138 rfl) rfl
theorem q211 : (Jvm.Cond.fieldLink "java/util/ArrayDeque" (20 : Nat) "java/util/ArrayDeque" "tail" "I") ∈ lw_all := lw_g (lw_at lw_m1 139 rfl) rfl
theorem q212 : (Jvm.Cond.lays "java/util/ArrayDeque" "java/util/ArrayDeque" "elements" "[Ljava/lang/Object;") ∈ lw_all := lw_g (lw_at lw_m1 140 rfl) rfl
theorem q213 : (Jvm.Cond.soleField "java/util/ArrayDeque" "elements") ∈ lw_all := lw_g (lw_at lw_m1 141 rfl) rfl
theorem q214 : (Jvm.Cond.lays "java/util/ArrayDeque" "java/util/ArrayDeque" "head" "I") ∈ lw_all := lw_g (lw_at lw_m1 142 rfl) rfl
theorem q215 : (Jvm.Cond.soleField "java/util/ArrayDeque" "head") ∈ lw_all := lw_g (lw_at lw_m1 143 rfl) rfl
theorem q216 : (Jvm.Cond.lays "java/util/ArrayDeque" "java/util/ArrayDeque" "tail" "I") ∈ lw_all := lw_g (lw_at lw_m1 144 rfl) rfl
theorem q217 : (Jvm.Cond.soleField "java/util/ArrayDeque" "tail") ∈ lw_all := lw_g (lw_at lw_m1 145 rfl) rfl
theorem q218 : (Jvm.Cond.superclass "java/util/ArrayDeque" "java/util/AbstractCollection") ∈ lw_all := lw_g (lw_at lw_m1 146 rfl) rfl
theorem q281 : (Jvm.Cond.instanceMethod ({ cls := "java/util/ArrayDeque", name := "size", desc := "()I" } : Jvm.MethodName)) ∈ lw_all := lw_g (lw_at lw_m1 209 rfl) rfl
theorem q282 : (Jvm.Cond.selects "java/util/ArrayDeque" ({ cls := "java/util/ArrayDeque", name := "size", desc := "()I" } : Jvm.MethodName) ({ cls := "java/util/ArrayDeque", name := "size", desc := "()I" } : Jvm.MethodName)) ∈ lw_all := lw_g (lw_at lw_m1 210 rfl) rfl
theorem q283 : (Jvm.Cond.code ({ cls := "java/util/ArrayDeque", name := "size", desc := "()I" } : Jvm.MethodName) prog_62_method_37_code (1 : Nat) (Option.some Jvm.ClassFile.FieldType.int)) ∈ lw_all := lw_g (lw_at lw_m1 211 rfl) rfl
theorem q284 : (Jvm.Cond.methodLink "java/util/ArrayDeque" (127 : Nat) ({ cls := "java/util/ArrayDeque", name := "sub", desc := "(III)I" } : Jvm.MethodName)) ∈ lw_all := lw_g (lw_at lw_m1 212 rfl) rfl
theorem q285 : (Jvm.Cond.static ({ cls := "java/util/ArrayDeque", name := "sub", desc := "(III)I" } : Jvm.MethodName)) ∈ lw_all := lw_g (lw_at lw_m1 213 rfl) rfl
theorem q286 : (Jvm.Cond.code ({ cls := "java/util/ArrayDeque", name := "sub", desc := "(III)I" } : Jvm.MethodName) prog_62_method_9_code (3 : Nat) (Option.some Jvm.ClassFile.FieldType.int)) ∈ lw_all := lw_g (lw_at lw_m1 214 rfl) rfl
theorem q521 : (Jvm.Cond.selects "java/util/ArrayDeque" ({ cls := "java/lang/Object", name := "getClass", desc := "()Ljava/lang/Class;" } : Jvm.MethodName) ({ cls := "java/lang/Object", name := "getClass", desc := "()Ljava/lang/Class;" } : Jvm.MethodName)) ∈ lw_all := lw_g (lw_at lw_m2 209 rfl) rfl
theorem q1203 : (Jvm.Cond.instanceMethod ({ cls := "java/util/ArrayDeque", name := "removeFirst", desc := "()Ljava/lang/Object;" } : Jvm.MethodName)) ∈ lw_all := lw_g (lw_at lw_m5 171 rfl) rfl
theorem q1204 : (Jvm.Cond.selects "java/util/ArrayDeque" ({ cls := "java/util/ArrayDeque", name := "removeFirst", desc := "()Ljava/lang/Object;" } : Jvm.MethodName) ({ cls := "java/util/ArrayDeque", name := "removeFirst", desc := "()Ljava/lang/Object;" } : Jvm.MethodName)) ∈ lw_all := lw_g (lw_at lw_m5 172 rfl) rfl
theorem q1205 : (Jvm.Cond.code ({ cls := "java/util/ArrayDeque", name := "removeFirst", desc := "()Ljava/lang/Object;" } : Jvm.MethodName) prog_62_method_18_code (2 : Nat) (Option.some (Jvm.ClassFile.FieldType.object "java/lang/Object"))) ∈ lw_all := lw_g (lw_at lw_m5 173 rfl) rfl
theorem q1206 : (Jvm.Cond.methodLink "java/util/ArrayDeque" (93 : Nat) ({ cls := "java/util/ArrayDeque", name := "pollFirst", desc := "()Ljava/lang/Object;" } : Jvm.MethodName)) ∈ lw_all := lw_g (lw_at lw_m5 174 rfl) rfl
theorem q1207 : (Jvm.Cond.instanceMethod ({ cls := "java/util/ArrayDeque", name := "pollFirst", desc := "()Ljava/lang/Object;" } : Jvm.MethodName)) ∈ lw_all := lw_g (lw_at lw_m5 175 rfl) rfl
theorem q1208 : (Jvm.Cond.selects "java/util/ArrayDeque" ({ cls := "java/util/ArrayDeque", name := "pollFirst", desc := "()Ljava/lang/Object;" } : Jvm.MethodName) ({ cls := "java/util/ArrayDeque", name := "pollFirst", desc := "()Ljava/lang/Object;" } : Jvm.MethodName)) ∈ lw_all := lw_g (lw_at lw_m5 176 rfl) rfl
theorem q1209 : (Jvm.Cond.code ({ cls := "java/util/ArrayDeque", name := "pollFirst", desc := "()Ljava/lang/Object;" } : Jvm.MethodName) prog_62_method_20_code (4 : Nat) (Option.some (Jvm.ClassFile.FieldType.object "java/lang/Object"))) ∈ lw_all := lw_g (lw_at lw_m5 177 rfl) rfl
theorem q1210 : (Jvm.Cond.methodLink "java/util/ArrayDeque" (103 : Nat) ({ cls := "java/util/ArrayDeque", name := "elementAt", desc := "([Ljava/lang/Object;I)Ljava/lang/Object;" } : Jvm.MethodName)) ∈ lw_all := lw_g (lw_at lw_m5 178 rfl) rfl
theorem q1211 : (Jvm.Cond.static ({ cls := "java/util/ArrayDeque", name := "elementAt", desc := "([Ljava/lang/Object;I)Ljava/lang/Object;" } : Jvm.MethodName)) ∈ lw_all := lw_g (lw_at lw_m5 179 rfl) rfl
theorem q1212 : (Jvm.Cond.code ({ cls := "java/util/ArrayDeque", name := "elementAt", desc := "([Ljava/lang/Object;I)Ljava/lang/Object;" } : Jvm.MethodName) prog_62_method_10_code (2 : Nat) (Option.some (Jvm.ClassFile.FieldType.object "java/lang/Object"))) ∈ lw_all := lw_g (lw_at lw_m5 180 rfl) rfl
theorem q1213 : (Jvm.Cond.methodLink "java/util/ArrayDeque" (74 : Nat) ({ cls := "java/util/ArrayDeque", name := "inc", desc := "(II)I" } : Jvm.MethodName)) ∈ lw_all := lw_g (lw_at lw_m5 181 rfl) rfl
theorem q1214 : (Jvm.Cond.static ({ cls := "java/util/ArrayDeque", name := "inc", desc := "(II)I" } : Jvm.MethodName)) ∈ lw_all := lw_g (lw_at lw_m5 182 rfl) rfl
theorem q1215 : (Jvm.Cond.code ({ cls := "java/util/ArrayDeque", name := "inc", desc := "(II)I" } : Jvm.MethodName) prog_62_method_6_code (2 : Nat) (Option.some Jvm.ClassFile.FieldType.int)) ∈ lw_all := lw_g (lw_at lw_m5 183 rfl) rfl
theorem q1216 : (Jvm.Cond.classLink "java/util/ArrayDeque" (97 : Nat) "java/util/NoSuchElementException") ∈ lw_all := lw_g (lw_at lw_m5 184 rfl) rfl
theorem q1217 : (Jvm.Cond.methodLink "java/util/ArrayDeque" (99 : Nat) ({ cls := "java/util/NoSuchElementException", name := "<init>", desc := "()V" } : Jvm.MethodName)) ∈ lw_all := lw_g (lw_at lw_m5 185 rfl) rfl
theorem q1219 : (Jvm.Cond.instanceMethod ({ cls := "java/util/ArrayDeque", name := "addLast", desc := "(Ljava/lang/Object;)V" } : Jvm.MethodName)) ∈ lw_all := lw_g (lw_at lw_m5 187 rfl) rfl
theorem q1220 : (Jvm.Cond.selects "java/util/ArrayDeque" ({ cls := "java/util/ArrayDeque", name := "addLast", desc := "(Ljava/lang/Object;)V" } : Jvm.MethodName) ({ cls := "java/util/ArrayDeque", name := "addLast", desc := "(Ljava/lang/Object;)V" } : Jvm.MethodName)) ∈ lw_all := lw_g (lw_at lw_m5 188 rfl) rfl
theorem q1221 : (Jvm.Cond.code ({ cls := "java/util/ArrayDeque", name := "addLast", desc := "(Ljava/lang/Object;)V" } : Jvm.MethodName) prog_62_method_13_code (3 : Nat) (Option.none : Option Jvm.ClassFile.FieldType)) ∈ lw_all := lw_g (lw_at lw_m5 189 rfl) rfl
theorem q1222 : (Jvm.Cond.methodLink "java/util/ArrayDeque" (71 : Nat) ({ cls := "java/util/ArrayDeque", name := "grow", desc := "(I)V" } : Jvm.MethodName)) ∈ lw_all := lw_g (lw_at lw_m5 190 rfl) rfl
theorem q1223 : (Jvm.Cond.privateMethod ({ cls := "java/util/ArrayDeque", name := "grow", desc := "(I)V" } : Jvm.MethodName)) ∈ lw_tbl := lw_at lw_m5 191 rfl
theorem q1224 : (Jvm.Cond.instanceMethod ({ cls := "java/util/ArrayDeque", name := "grow", desc := "(I)V" } : Jvm.MethodName)) ∈ lw_all := lw_g (lw_at lw_m5 192 rfl) rfl
theorem q1225 : (Jvm.Cond.code ({ cls := "java/util/ArrayDeque", name := "grow", desc := "(I)V" } : Jvm.MethodName) prog_62_method_1_code (9 : Nat) (Option.none : Option Jvm.ClassFile.FieldType)) ∈ lw_all := lw_g (lw_at lw_m5 193 rfl) rfl
theorem q1226 : (Jvm.Cond.constant "java/util/ArrayDeque" (9 : Nat) (2147483639 : Int32)) ∈ lw_all := lw_g (lw_at lw_m5 194 rfl) rfl
theorem q1227 : (Jvm.Cond.methodLink "java/util/ArrayDeque" (10 : Nat) ({ cls := "java/util/ArrayDeque", name := "newCapacity", desc := "(II)I" } : Jvm.MethodName)) ∈ lw_all := lw_g (lw_at lw_m5 195 rfl) rfl
theorem q1228 : (Jvm.Cond.privateMethod ({ cls := "java/util/ArrayDeque", name := "newCapacity", desc := "(II)I" } : Jvm.MethodName)) ∈ lw_tbl := lw_at lw_m5 196 rfl
theorem q1229 : (Jvm.Cond.instanceMethod ({ cls := "java/util/ArrayDeque", name := "newCapacity", desc := "(II)I" } : Jvm.MethodName)) ∈ lw_all := lw_g (lw_at lw_m5 197 rfl) rfl
theorem q1230 : (Jvm.Cond.code ({ cls := "java/util/ArrayDeque", name := "newCapacity", desc := "(II)I" } : Jvm.MethodName) prog_62_method_2_code (5 : Nat) (Option.some Jvm.ClassFile.FieldType.int)) ∈ lw_all := lw_g (lw_at lw_m5 198 rfl) rfl
theorem q1231 : (Jvm.Cond.classLink "java/util/ArrayDeque" (33 : Nat) "java/lang/IllegalStateException") ∈ lw_all := lw_g (lw_at lw_m5 199 rfl) rfl
theorem q1232 : (Jvm.Cond.stringRef "java/util/ArrayDeque" (35 : Nat) "Sorry, deque too big") ∈ lw_tbl := lw_at lw_m5 200 rfl
theorem q1233 : (Jvm.Cond.methodLink "java/util/ArrayDeque" (37 : Nat) ({ cls := "java/lang/IllegalStateException", name := "<init>", desc := "(Ljava/lang/String;)V" } : Jvm.MethodName)) ∈ lw_all := lw_g (lw_at lw_m5 201 rfl) rfl
theorem q1237 : (Jvm.Cond.constant "java/util/ArrayDeque" (41 : Nat) (2147483647 : Int32)) ∈ lw_all := lw_g (lw_at lw_m5 205 rfl) rfl
theorem q1238 : (Jvm.Cond.methodLink "java/util/ArrayDeque" (14 : Nat) ({ cls := "java/util/Arrays", name := "copyOf", desc := "([Ljava/lang/Object;I)[Ljava/lang/Object;" } : Jvm.MethodName)) ∈ lw_all := lw_g (lw_at lw_m5 206 rfl) rfl
theorem q1239 : (Jvm.Cond.methodLink "java/util/ArrayDeque" (27 : Nat) ({ cls := "java/lang/System", name := "arraycopy", desc := "(Ljava/lang/Object;ILjava/lang/Object;II)V" } : Jvm.MethodName)) ∈ lw_all := lw_g (lw_at lw_m5 207 rfl) rfl
theorem q2661 : (Jvm.Cond.instanceMethod ({ cls := "java/util/ArrayDeque", name := "isEmpty", desc := "()Z" } : Jvm.MethodName)) ∈ lw_all := lw_g (lw_at lw_m11 189 rfl) rfl
theorem q2662 : (Jvm.Cond.selects "java/util/ArrayDeque" ({ cls := "java/util/ArrayDeque", name := "isEmpty", desc := "()Z" } : Jvm.MethodName) ({ cls := "java/util/ArrayDeque", name := "isEmpty", desc := "()Z" } : Jvm.MethodName)) ∈ lw_all := lw_g (lw_at lw_m11 190 rfl) rfl
theorem q2663 : (Jvm.Cond.code ({ cls := "java/util/ArrayDeque", name := "isEmpty", desc := "()Z" } : Jvm.MethodName) prog_62_method_38_code (1 : Nat) (Option.some Jvm.ClassFile.FieldType.boolean)) ∈ lw_all := lw_g (lw_at lw_m11 191 rfl) rfl
theorem q2665 : (Jvm.Cond.instanceMethod ({ cls := "java/util/ArrayDeque", name := "removeLast", desc := "()Ljava/lang/Object;" } : Jvm.MethodName)) ∈ lw_all := lw_g (lw_at lw_m11 193 rfl) rfl
theorem q2666 : (Jvm.Cond.selects "java/util/ArrayDeque" ({ cls := "java/util/ArrayDeque", name := "removeLast", desc := "()Ljava/lang/Object;" } : Jvm.MethodName) ({ cls := "java/util/ArrayDeque", name := "removeLast", desc := "()Ljava/lang/Object;" } : Jvm.MethodName)) ∈ lw_all := lw_g (lw_at lw_m11 194 rfl) rfl
theorem q2667 : (Jvm.Cond.code ({ cls := "java/util/ArrayDeque", name := "removeLast", desc := "()Ljava/lang/Object;" } : Jvm.MethodName) prog_62_method_19_code (2 : Nat) (Option.some (Jvm.ClassFile.FieldType.object "java/lang/Object"))) ∈ lw_all := lw_g (lw_at lw_m11 195 rfl) rfl
theorem q2668 : (Jvm.Cond.methodLink "java/util/ArrayDeque" (100 : Nat) ({ cls := "java/util/ArrayDeque", name := "pollLast", desc := "()Ljava/lang/Object;" } : Jvm.MethodName)) ∈ lw_all := lw_g (lw_at lw_m11 196 rfl) rfl
theorem q2669 : (Jvm.Cond.instanceMethod ({ cls := "java/util/ArrayDeque", name := "pollLast", desc := "()Ljava/lang/Object;" } : Jvm.MethodName)) ∈ lw_all := lw_g (lw_at lw_m11 197 rfl) rfl
theorem q2670 : (Jvm.Cond.selects "java/util/ArrayDeque" ({ cls := "java/util/ArrayDeque", name := "pollLast", desc := "()Ljava/lang/Object;" } : Jvm.MethodName) ({ cls := "java/util/ArrayDeque", name := "pollLast", desc := "()Ljava/lang/Object;" } : Jvm.MethodName)) ∈ lw_all := lw_g (lw_at lw_m11 198 rfl) rfl
theorem q2671 : (Jvm.Cond.code ({ cls := "java/util/ArrayDeque", name := "pollLast", desc := "()Ljava/lang/Object;" } : Jvm.MethodName) prog_62_method_21_code (4 : Nat) (Option.some (Jvm.ClassFile.FieldType.object "java/lang/Object"))) ∈ lw_all := lw_g (lw_at lw_m11 199 rfl) rfl
theorem q2672 : (Jvm.Cond.methodLink "java/util/ArrayDeque" (68 : Nat) ({ cls := "java/util/ArrayDeque", name := "dec", desc := "(II)I" } : Jvm.MethodName)) ∈ lw_all := lw_g (lw_at lw_m11 200 rfl) rfl
theorem q2673 : (Jvm.Cond.static ({ cls := "java/util/ArrayDeque", name := "dec", desc := "(II)I" } : Jvm.MethodName)) ∈ lw_all := lw_g (lw_at lw_m11 201 rfl) rfl
theorem q2674 : (Jvm.Cond.code ({ cls := "java/util/ArrayDeque", name := "dec", desc := "(II)I" } : Jvm.MethodName) prog_62_method_7_code (2 : Nat) (Option.some Jvm.ClassFile.FieldType.int)) ∈ lw_all := lw_g (lw_at lw_m11 202 rfl) rfl
theorem q3155 : (Jvm.Cond.castable "java/util/ArrayDeque" "java/lang/Object") ∈ lw_tbl := lw_at lw_m13 203 rfl
theorem in_J3 : ∀ w ∈ wsJ30, w ∈ lw_all := lw_in wsJ30 [212, 214, 216] (by decide +kernel) (by decide +kernel)
/-! java/lang/AbstractStringBuilder -/
set_option maxRecDepth 100000
def RJ4 : String := "java/lang/AbstractStringBuilder"
abbrev cJ4_init : ByteArray := prog_28_method_2_code
def yJ4_init : MethodName := ⟨RJ4, "<init>", "(I)V"⟩
def dkwJ4_init_1 : List UInt8 := [167, 0, 16, 42, 27, 184, 0, 26, 181, 0, 15, 42, 4, 181, 0, 22, 177]
abbrev dktJ4_init_1 : List UInt8 := dkwJ4_init_1 ++ []
def dkwJ4_init_0 : List UInt8 := [42, 183, 0, 3, 178, 0, 18, 153, 0, 18, 42, 27, 188, 8, 181, 0, 15, 42, 3, 181, 0, 22]
abbrev dktJ4_init_0 : List UInt8 := dkwJ4_init_0 ++ dktJ4_init_1
theorem dksJ4_init_0 : cJ4_init.data.toList.drop 0 = dktJ4_init_0 := by decide +kernel
theorem dksJ4_init_1 : cJ4_init.data.toList.drop 22 = dktJ4_init_1 := dk_seg dksJ4_init_0 22 rfl rfl
theorem dJ4_init_0 : decode cJ4_init 0 = .ok (.aload_n 0, 1) := dk_42 (dk_at dksJ4_init_0 0 rfl rfl)
theorem dJ4_init_1 : decode cJ4_init 1 = .ok (.invokespecial 3, 3) := dk_183 0 3 (dk_at dksJ4_init_0 1 rfl rfl)
theorem dJ4_init_4 : decode cJ4_init 4 = .ok (.getstatic 18, 3) := dk_178 0 18 (dk_at dksJ4_init_0 4 rfl rfl)
theorem dJ4_init_7 : decode cJ4_init 7 = .ok (.ifCond .eq 18, 3) := dk_153 0 18 (dk_at dksJ4_init_0 7 rfl rfl)
theorem dJ4_init_10 : decode cJ4_init 10 = .ok (.aload_n 0, 1) := dk_42 (dk_at dksJ4_init_0 10 rfl rfl)
theorem dJ4_init_11 : decode cJ4_init 11 = .ok (.iload_n 1, 1) := dk_27 (dk_at dksJ4_init_0 11 rfl rfl)
theorem dJ4_init_12 : decode cJ4_init 12 = .ok (.newarray .byte, 2) := dk_188_8 (dk_at dksJ4_init_0 12 rfl rfl)
theorem dJ4_init_14 : decode cJ4_init 14 = .ok (.putfield 15, 3) := dk_181 0 15 (dk_at dksJ4_init_0 14 rfl rfl)
theorem dJ4_init_17 : decode cJ4_init 17 = .ok (.aload_n 0, 1) := dk_42 (dk_at dksJ4_init_0 17 rfl rfl)
theorem dJ4_init_18 : decode cJ4_init 18 = .ok (.iconst 0, 1) := dk_3 (dk_at dksJ4_init_0 18 rfl rfl)
theorem dJ4_init_19 : decode cJ4_init 19 = .ok (.putfield 22, 3) := dk_181 0 22 (dk_at dksJ4_init_0 19 rfl rfl)
theorem dJ4_init_22 : decode cJ4_init 22 = .ok (.goto 16, 3) := dk_167 0 16 (dk_at dksJ4_init_1 0 rfl rfl)
theorem dJ4_init_25 : decode cJ4_init 25 = .ok (.aload_n 0, 1) := dk_42 (dk_at dksJ4_init_1 3 rfl rfl)
theorem dJ4_init_26 : decode cJ4_init 26 = .ok (.iload_n 1, 1) := dk_27 (dk_at dksJ4_init_1 4 rfl rfl)
theorem dJ4_init_27 : decode cJ4_init 27 = .ok (.invokestatic 26, 3) := dk_184 0 26 (dk_at dksJ4_init_1 5 rfl rfl)
theorem dJ4_init_30 : decode cJ4_init 30 = .ok (.putfield 15, 3) := dk_181 0 15 (dk_at dksJ4_init_1 8 rfl rfl)
theorem dJ4_init_33 : decode cJ4_init 33 = .ok (.aload_n 0, 1) := dk_42 (dk_at dksJ4_init_1 11 rfl rfl)
theorem dJ4_init_34 : decode cJ4_init 34 = .ok (.iconst 1, 1) := dk_4 (dk_at dksJ4_init_1 12 rfl rfl)
theorem dJ4_init_35 : decode cJ4_init 35 = .ok (.putfield 22, 3) := dk_181 0 22 (dk_at dksJ4_init_1 13 rfl rfl)
theorem dJ4_init_38 : decode cJ4_init 38 = .ok (.return_, 1) := dk_177 (dk_at dksJ4_init_1 16 rfl rfl)
abbrev cJ4_length : ByteArray := prog_28_method_6_code
def yJ4_length : MethodName := ⟨RJ4, "length", "()I"⟩
theorem dJ4_length_0 : decode cJ4_length 0 = .ok (.aload_n 0, 1) := by decide +kernel
theorem dJ4_length_1 : decode cJ4_length 1 = .ok (.getfield 79, 3) := by decide +kernel
theorem dJ4_length_4 : decode cJ4_length 4 = .ok (.ireturn, 1) := by decide +kernel
abbrev cJ4_append : ByteArray := prog_28_method_31_code
def yJ4_append : MethodName := ⟨RJ4, "append", "(C)Ljava/lang/AbstractStringBuilder;"⟩
def dkwJ4_append_3 : List UInt8 := [181, 0, 79, 27, 184, 0, 197, 42, 176]
abbrev dktJ4_append_3 : List UInt8 := dkwJ4_append_3 ++ []
def dkwJ4_append_2 : List UInt8 := [182, 0, 83, 153, 0, 7, 42, 182, 0, 195, 42, 180, 0, 15, 42, 89, 180, 0, 79, 90, 4, 96]
abbrev dktJ4_append_2 : List UInt8 := dkwJ4_append_2 ++ dktJ4_append_3
def dkwJ4_append_1 : List UInt8 := [42, 180, 0, 15, 42, 89, 180, 0, 79, 90, 4, 96, 181, 0, 79, 27, 145, 84, 167, 0, 33, 42]
abbrev dktJ4_append_1 : List UInt8 := dkwJ4_append_1 ++ dktJ4_append_2
def dkwJ4_append_0 : List UInt8 := [42, 42, 180, 0, 79, 4, 96, 182, 0, 100, 42, 182, 0, 83, 153, 0, 31, 27, 184, 0, 191, 153, 0, 24]
abbrev dktJ4_append_0 : List UInt8 := dkwJ4_append_0 ++ dktJ4_append_1
theorem dksJ4_append_0 : cJ4_append.data.toList.drop 0 = dktJ4_append_0 := by decide +kernel
theorem dksJ4_append_1 : cJ4_append.data.toList.drop 24 = dktJ4_append_1 := dk_seg dksJ4_append_0 24 rfl rfl
theorem dksJ4_append_2 : cJ4_append.data.toList.drop 46 = dktJ4_append_2 := dk_seg dksJ4_append_1 22 rfl rfl
theorem dksJ4_append_3 : cJ4_append.data.toList.drop 68 = dktJ4_append_3 := dk_seg dksJ4_append_2 22 rfl rfl
theorem dJ4_append_0 : decode cJ4_append 0 = .ok (.aload_n 0, 1) := dk_42 (dk_at dksJ4_append_0 0 rfl rfl)
theorem dJ4_append_1 : decode cJ4_append 1 = .ok (.aload_n 0, 1) := dk_42 (dk_at dksJ4_append_0 1 rfl rfl)
theorem dJ4_append_2 : decode cJ4_append 2 = .ok (.getfield 79, 3) := dk_180 0 79 (dk_at dksJ4_append_0 2 rfl rfl)
theorem dJ4_append_5 : decode cJ4_append 5 = .ok (.iconst 1, 1) := dk_4 (dk_at dksJ4_append_0 5 rfl rfl)
theorem dJ4_append_6 : decode cJ4_append 6 = .ok (.iadd, 1) := dk_96 (dk_at dksJ4_append_0 6 rfl rfl)
theorem dJ4_append_7 : decode cJ4_append 7 = .ok (.invokevirtual 100, 3) := dk_182 0 100 (dk_at dksJ4_append_0 7 rfl rfl)
theorem dJ4_append_10 : decode cJ4_append 10 = .ok (.aload_n 0, 1) := dk_42 (dk_at dksJ4_append_0 10 rfl rfl)
theorem dJ4_append_11 : decode cJ4_append 11 = .ok (.invokevirtual 83, 3) := dk_182 0 83 (dk_at dksJ4_append_0 11 rfl rfl)
theorem dJ4_append_14 : decode cJ4_append 14 = .ok (.ifCond .eq 31, 3) := dk_153 0 31 (dk_at dksJ4_append_0 14 rfl rfl)
theorem dJ4_append_17 : decode cJ4_append 17 = .ok (.iload_n 1, 1) := dk_27 (dk_at dksJ4_append_0 17 rfl rfl)
theorem dJ4_append_18 : decode cJ4_append 18 = .ok (.invokestatic 191, 3) := dk_184 0 191 (dk_at dksJ4_append_0 18 rfl rfl)
theorem dJ4_append_21 : decode cJ4_append 21 = .ok (.ifCond .eq 24, 3) := dk_153 0 24 (dk_at dksJ4_append_0 21 rfl rfl)
theorem dJ4_append_24 : decode cJ4_append 24 = .ok (.aload_n 0, 1) := dk_42 (dk_at dksJ4_append_1 0 rfl rfl)
theorem dJ4_append_25 : decode cJ4_append 25 = .ok (.getfield 15, 3) := dk_180 0 15 (dk_at dksJ4_append_1 1 rfl rfl)
theorem dJ4_append_28 : decode cJ4_append 28 = .ok (.aload_n 0, 1) := dk_42 (dk_at dksJ4_append_1 4 rfl rfl)
theorem dJ4_append_29 : decode cJ4_append 29 = .ok (.dup, 1) := dk_89 (dk_at dksJ4_append_1 5 rfl rfl)
theorem dJ4_append_30 : decode cJ4_append 30 = .ok (.getfield 79, 3) := dk_180 0 79 (dk_at dksJ4_append_1 6 rfl rfl)
theorem dJ4_append_33 : decode cJ4_append 33 = .ok (.dup_x1, 1) := dk_90 (dk_at dksJ4_append_1 9 rfl rfl)
theorem dJ4_append_34 : decode cJ4_append 34 = .ok (.iconst 1, 1) := dk_4 (dk_at dksJ4_append_1 10 rfl rfl)
theorem dJ4_append_35 : decode cJ4_append 35 = .ok (.iadd, 1) := dk_96 (dk_at dksJ4_append_1 11 rfl rfl)
theorem dJ4_append_36 : decode cJ4_append 36 = .ok (.putfield 79, 3) := dk_181 0 79 (dk_at dksJ4_append_1 12 rfl rfl)
theorem dJ4_append_39 : decode cJ4_append 39 = .ok (.iload_n 1, 1) := dk_27 (dk_at dksJ4_append_1 15 rfl rfl)
theorem dJ4_append_40 : decode cJ4_append 40 = .ok (.i2b, 1) := dk_145 (dk_at dksJ4_append_1 16 rfl rfl)
theorem dJ4_append_41 : decode cJ4_append 41 = .ok (.bastore, 1) := dk_84 (dk_at dksJ4_append_1 17 rfl rfl)
theorem dJ4_append_42 : decode cJ4_append 42 = .ok (.goto 33, 3) := dk_167 0 33 (dk_at dksJ4_append_1 18 rfl rfl)
theorem dJ4_append_45 : decode cJ4_append 45 = .ok (.aload_n 0, 1) := dk_42 (dk_at dksJ4_append_1 21 rfl rfl)
theorem dJ4_append_46 : decode cJ4_append 46 = .ok (.invokevirtual 83, 3) := dk_182 0 83 (dk_at dksJ4_append_2 0 rfl rfl)
theorem dJ4_append_49 : decode cJ4_append 49 = .ok (.ifCond .eq 7, 3) := dk_153 0 7 (dk_at dksJ4_append_2 3 rfl rfl)
theorem dJ4_append_52 : decode cJ4_append 52 = .ok (.aload_n 0, 1) := dk_42 (dk_at dksJ4_append_2 6 rfl rfl)
theorem dJ4_append_53 : decode cJ4_append 53 = .ok (.invokevirtual 195, 3) := dk_182 0 195 (dk_at dksJ4_append_2 7 rfl rfl)
theorem dJ4_append_56 : decode cJ4_append 56 = .ok (.aload_n 0, 1) := dk_42 (dk_at dksJ4_append_2 10 rfl rfl)
theorem dJ4_append_57 : decode cJ4_append 57 = .ok (.getfield 15, 3) := dk_180 0 15 (dk_at dksJ4_append_2 11 rfl rfl)
theorem dJ4_append_60 : decode cJ4_append 60 = .ok (.aload_n 0, 1) := dk_42 (dk_at dksJ4_append_2 14 rfl rfl)
theorem dJ4_append_61 : decode cJ4_append 61 = .ok (.dup, 1) := dk_89 (dk_at dksJ4_append_2 15 rfl rfl)
theorem dJ4_append_62 : decode cJ4_append 62 = .ok (.getfield 79, 3) := dk_180 0 79 (dk_at dksJ4_append_2 16 rfl rfl)
theorem dJ4_append_65 : decode cJ4_append 65 = .ok (.dup_x1, 1) := dk_90 (dk_at dksJ4_append_2 19 rfl rfl)
theorem dJ4_append_66 : decode cJ4_append 66 = .ok (.iconst 1, 1) := dk_4 (dk_at dksJ4_append_2 20 rfl rfl)
theorem dJ4_append_67 : decode cJ4_append 67 = .ok (.iadd, 1) := dk_96 (dk_at dksJ4_append_2 21 rfl rfl)
theorem dJ4_append_68 : decode cJ4_append 68 = .ok (.putfield 79, 3) := dk_181 0 79 (dk_at dksJ4_append_3 0 rfl rfl)
theorem dJ4_append_71 : decode cJ4_append 71 = .ok (.iload_n 1, 1) := dk_27 (dk_at dksJ4_append_3 3 rfl rfl)
theorem dJ4_append_72 : decode cJ4_append 72 = .ok (.invokestatic 197, 3) := dk_184 0 197 (dk_at dksJ4_append_3 4 rfl rfl)
theorem dJ4_append_75 : decode cJ4_append 75 = .ok (.aload_n 0, 1) := dk_42 (dk_at dksJ4_append_3 7 rfl rfl)
theorem dJ4_append_76 : decode cJ4_append 76 = .ok (.areturn, 1) := dk_176 (dk_at dksJ4_append_3 8 rfl rfl)
abbrev cJ4_ensureCapacityInternal : ByteArray := prog_28_method_9_code
def yJ4_ensureCapacityInternal : MethodName := ⟨RJ4, "ensureCapacityInternal", "(I)V"⟩
def dkwJ4_ensureCapacityInternal_1 : List UInt8 := [182, 0, 104, 42, 180, 0, 22, 120, 184, 0, 108, 181, 0, 15, 177]
abbrev dktJ4_ensureCapacityInternal_1 : List UInt8 := dkwJ4_ensureCapacityInternal_1 ++ []
def dkwJ4_ensureCapacityInternal_0 : List UInt8 := [42, 180, 0, 15, 190, 42, 180, 0, 22, 122, 61, 27, 28, 100, 158, 0, 24, 42, 42, 180, 0, 15, 42, 27]
abbrev dktJ4_ensureCapacityInternal_0 : List UInt8 := dkwJ4_ensureCapacityInternal_0 ++ dktJ4_ensureCapacityInternal_1
theorem dksJ4_ensureCapacityInternal_0 : cJ4_ensureCapacityInternal.data.toList.drop 0 = dktJ4_ensureCapacityInternal_0 := by decide +kernel
theorem dksJ4_ensureCapacityInternal_1 : cJ4_ensureCapacityInternal.data.toList.drop 24 = dktJ4_ensureCapacityInternal_1 := dk_seg dksJ4_ensureCapacityInternal_0 24 rfl rfl
theorem dJ4_ensureCapacityInternal_0 : decode cJ4_ensureCapacityInternal 0 = .ok (.aload_n 0, 1) := dk_42 (dk_at dksJ4_ensureCapacityInternal_0 0 rfl rfl)
theorem dJ4_ensureCapacityInternal_1 : decode cJ4_ensureCapacityInternal 1 = .ok (.getfield 15, 3) := dk_180 0 15 (dk_at dksJ4_ensureCapacityInternal_0 1 rfl rfl)
theorem dJ4_ensureCapacityInternal_4 : decode cJ4_ensureCapacityInternal 4 = .ok (.arraylength, 1) := dk_190 (dk_at dksJ4_ensureCapacityInternal_0 4 rfl rfl)
theorem dJ4_ensureCapacityInternal_5 : decode cJ4_ensureCapacityInternal 5 = .ok (.aload_n 0, 1) := dk_42 (dk_at dksJ4_ensureCapacityInternal_0 5 rfl rfl)
theorem dJ4_ensureCapacityInternal_6 : decode cJ4_ensureCapacityInternal 6 = .ok (.getfield 22, 3) := dk_180 0 22 (dk_at dksJ4_ensureCapacityInternal_0 6 rfl rfl)
theorem dJ4_ensureCapacityInternal_9 : decode cJ4_ensureCapacityInternal 9 = .ok (.ishr, 1) := dk_122 (dk_at dksJ4_ensureCapacityInternal_0 9 rfl rfl)
theorem dJ4_ensureCapacityInternal_10 : decode cJ4_ensureCapacityInternal 10 = .ok (.istore_n 2, 1) := dk_61 (dk_at dksJ4_ensureCapacityInternal_0 10 rfl rfl)
theorem dJ4_ensureCapacityInternal_11 : decode cJ4_ensureCapacityInternal 11 = .ok (.iload_n 1, 1) := dk_27 (dk_at dksJ4_ensureCapacityInternal_0 11 rfl rfl)
theorem dJ4_ensureCapacityInternal_12 : decode cJ4_ensureCapacityInternal 12 = .ok (.iload_n 2, 1) := dk_28 (dk_at dksJ4_ensureCapacityInternal_0 12 rfl rfl)
theorem dJ4_ensureCapacityInternal_13 : decode cJ4_ensureCapacityInternal 13 = .ok (.isub, 1) := dk_100 (dk_at dksJ4_ensureCapacityInternal_0 13 rfl rfl)
theorem dJ4_ensureCapacityInternal_14 : decode cJ4_ensureCapacityInternal 14 = .ok (.ifCond .le 24, 3) := dk_158 0 24 (dk_at dksJ4_ensureCapacityInternal_0 14 rfl rfl)
theorem dJ4_ensureCapacityInternal_17 : decode cJ4_ensureCapacityInternal 17 = .ok (.aload_n 0, 1) := dk_42 (dk_at dksJ4_ensureCapacityInternal_0 17 rfl rfl)
theorem dJ4_ensureCapacityInternal_18 : decode cJ4_ensureCapacityInternal 18 = .ok (.aload_n 0, 1) := dk_42 (dk_at dksJ4_ensureCapacityInternal_0 18 rfl rfl)
theorem dJ4_ensureCapacityInternal_19 : decode cJ4_ensureCapacityInternal 19 = .ok (.getfield 15, 3) := dk_180 0 15 (dk_at dksJ4_ensureCapacityInternal_0 19 rfl rfl)
theorem dJ4_ensureCapacityInternal_22 : decode cJ4_ensureCapacityInternal 22 = .ok (.aload_n 0, 1) := dk_42 (dk_at dksJ4_ensureCapacityInternal_0 22 rfl rfl)
theorem dJ4_ensureCapacityInternal_23 : decode cJ4_ensureCapacityInternal 23 = .ok (.iload_n 1, 1) := dk_27 (dk_at dksJ4_ensureCapacityInternal_0 23 rfl rfl)
theorem dJ4_ensureCapacityInternal_24 : decode cJ4_ensureCapacityInternal 24 = .ok (.invokevirtual 104, 3) := dk_182 0 104 (dk_at dksJ4_ensureCapacityInternal_1 0 rfl rfl)
theorem dJ4_ensureCapacityInternal_27 : decode cJ4_ensureCapacityInternal 27 = .ok (.aload_n 0, 1) := dk_42 (dk_at dksJ4_ensureCapacityInternal_1 3 rfl rfl)
theorem dJ4_ensureCapacityInternal_28 : decode cJ4_ensureCapacityInternal 28 = .ok (.getfield 22, 3) := dk_180 0 22 (dk_at dksJ4_ensureCapacityInternal_1 4 rfl rfl)
theorem dJ4_ensureCapacityInternal_31 : decode cJ4_ensureCapacityInternal 31 = .ok (.ishl, 1) := dk_120 (dk_at dksJ4_ensureCapacityInternal_1 7 rfl rfl)
theorem dJ4_ensureCapacityInternal_32 : decode cJ4_ensureCapacityInternal 32 = .ok (.invokestatic 108, 3) := dk_184 0 108 (dk_at dksJ4_ensureCapacityInternal_1 8 rfl rfl)
theorem dJ4_ensureCapacityInternal_35 : decode cJ4_ensureCapacityInternal 35 = .ok (.putfield 15, 3) := dk_181 0 15 (dk_at dksJ4_ensureCapacityInternal_1 11 rfl rfl)
theorem dJ4_ensureCapacityInternal_38 : decode cJ4_ensureCapacityInternal 38 = .ok (.return_, 1) := dk_177 (dk_at dksJ4_ensureCapacityInternal_1 14 rfl rfl)
abbrev cJ4_newCapacity : ByteArray := prog_28_method_10_code
def yJ4_newCapacity : MethodName := ⟨RJ4, "newCapacity", "(I)I"⟩
def dkwJ4_newCapacity_2 : List UInt8 := [183, 0, 124, 191, 21, 5, 42, 180, 0, 22, 122, 172]
abbrev dktJ4_newCapacity_2 : List UInt8 := dkwJ4_newCapacity_2 ++ []
def dkwJ4_newCapacity_1 : List UInt8 := [180, 0, 22, 120, 96, 184, 0, 114, 54, 5, 21, 5, 18, 39, 160, 0, 13, 187, 0, 120, 89, 18, 122]
abbrev dktJ4_newCapacity_1 : List UInt8 := dkwJ4_newCapacity_1 ++ dktJ4_newCapacity_2
def dkwJ4_newCapacity_0 : List UInt8 := [42, 180, 0, 15, 190, 61, 27, 42, 180, 0, 22, 120, 62, 29, 28, 100, 54, 4, 28, 21, 4, 28, 5, 42]
abbrev dktJ4_newCapacity_0 : List UInt8 := dkwJ4_newCapacity_0 ++ dktJ4_newCapacity_1
theorem dksJ4_newCapacity_0 : cJ4_newCapacity.data.toList.drop 0 = dktJ4_newCapacity_0 := by decide +kernel
theorem dksJ4_newCapacity_1 : cJ4_newCapacity.data.toList.drop 24 = dktJ4_newCapacity_1 := dk_seg dksJ4_newCapacity_0 24 rfl rfl
theorem dksJ4_newCapacity_2 : cJ4_newCapacity.data.toList.drop 47 = dktJ4_newCapacity_2 := dk_seg dksJ4_newCapacity_1 23 rfl rfl
theorem dJ4_newCapacity_0 : decode cJ4_newCapacity 0 = .ok (.aload_n 0, 1) := dk_42 (dk_at dksJ4_newCapacity_0 0 rfl rfl)
theorem dJ4_newCapacity_1 : decode cJ4_newCapacity 1 = .ok (.getfield 15, 3) := dk_180 0 15 (dk_at dksJ4_newCapacity_0 1 rfl rfl)
theorem dJ4_newCapacity_4 : decode cJ4_newCapacity 4 = .ok (.arraylength, 1) := dk_190 (dk_at dksJ4_newCapacity_0 4 rfl rfl)
theorem dJ4_newCapacity_5 : decode cJ4_newCapacity 5 = .ok (.istore_n 2, 1) := dk_61 (dk_at dksJ4_newCapacity_0 5 rfl rfl)
theorem dJ4_newCapacity_6 : decode cJ4_newCapacity 6 = .ok (.iload_n 1, 1) := dk_27 (dk_at dksJ4_newCapacity_0 6 rfl rfl)
theorem dJ4_newCapacity_7 : decode cJ4_newCapacity 7 = .ok (.aload_n 0, 1) := dk_42 (dk_at dksJ4_newCapacity_0 7 rfl rfl)
theorem dJ4_newCapacity_8 : decode cJ4_newCapacity 8 = .ok (.getfield 22, 3) := dk_180 0 22 (dk_at dksJ4_newCapacity_0 8 rfl rfl)
theorem dJ4_newCapacity_11 : decode cJ4_newCapacity 11 = .ok (.ishl, 1) := dk_120 (dk_at dksJ4_newCapacity_0 11 rfl rfl)
theorem dJ4_newCapacity_12 : decode cJ4_newCapacity 12 = .ok (.istore_n 3, 1) := dk_62 (dk_at dksJ4_newCapacity_0 12 rfl rfl)
theorem dJ4_newCapacity_13 : decode cJ4_newCapacity 13 = .ok (.iload_n 3, 1) := dk_29 (dk_at dksJ4_newCapacity_0 13 rfl rfl)
theorem dJ4_newCapacity_14 : decode cJ4_newCapacity 14 = .ok (.iload_n 2, 1) := dk_28 (dk_at dksJ4_newCapacity_0 14 rfl rfl)
theorem dJ4_newCapacity_15 : decode cJ4_newCapacity 15 = .ok (.isub, 1) := dk_100 (dk_at dksJ4_newCapacity_0 15 rfl rfl)
theorem dJ4_newCapacity_16 : decode cJ4_newCapacity 16 = .ok (.istore 4, 2) := dk_54 4 (dk_at dksJ4_newCapacity_0 16 rfl rfl)
theorem dJ4_newCapacity_18 : decode cJ4_newCapacity 18 = .ok (.iload_n 2, 1) := dk_28 (dk_at dksJ4_newCapacity_0 18 rfl rfl)
theorem dJ4_newCapacity_19 : decode cJ4_newCapacity 19 = .ok (.iload 4, 2) := dk_21 4 (dk_at dksJ4_newCapacity_0 19 rfl rfl)
theorem dJ4_newCapacity_21 : decode cJ4_newCapacity 21 = .ok (.iload_n 2, 1) := dk_28 (dk_at dksJ4_newCapacity_0 21 rfl rfl)
theorem dJ4_newCapacity_22 : decode cJ4_newCapacity 22 = .ok (.iconst 2, 1) := dk_5 (dk_at dksJ4_newCapacity_0 22 rfl rfl)
theorem dJ4_newCapacity_23 : decode cJ4_newCapacity 23 = .ok (.aload_n 0, 1) := dk_42 (dk_at dksJ4_newCapacity_0 23 rfl rfl)
theorem dJ4_newCapacity_24 : decode cJ4_newCapacity 24 = .ok (.getfield 22, 3) := dk_180 0 22 (dk_at dksJ4_newCapacity_1 0 rfl rfl)
theorem dJ4_newCapacity_27 : decode cJ4_newCapacity 27 = .ok (.ishl, 1) := dk_120 (dk_at dksJ4_newCapacity_1 3 rfl rfl)
theorem dJ4_newCapacity_28 : decode cJ4_newCapacity 28 = .ok (.iadd, 1) := dk_96 (dk_at dksJ4_newCapacity_1 4 rfl rfl)
theorem dJ4_newCapacity_29 : decode cJ4_newCapacity 29 = .ok (.invokestatic 114, 3) := dk_184 0 114 (dk_at dksJ4_newCapacity_1 5 rfl rfl)
theorem dJ4_newCapacity_32 : decode cJ4_newCapacity 32 = .ok (.istore 5, 2) := dk_54 5 (dk_at dksJ4_newCapacity_1 8 rfl rfl)
theorem dJ4_newCapacity_34 : decode cJ4_newCapacity 34 = .ok (.iload 5, 2) := dk_21 5 (dk_at dksJ4_newCapacity_1 10 rfl rfl)
theorem dJ4_newCapacity_36 : decode cJ4_newCapacity 36 = .ok (.ldc 39, 2) := dk_18 39 (dk_at dksJ4_newCapacity_1 12 rfl rfl)
theorem dJ4_newCapacity_38 : decode cJ4_newCapacity 38 = .ok (.if_icmp .ne 13, 3) := dk_160 0 13 (dk_at dksJ4_newCapacity_1 14 rfl rfl)
theorem dJ4_newCapacity_41 : decode cJ4_newCapacity 41 = .ok (.new 120, 3) := dk_187 0 120 (dk_at dksJ4_newCapacity_1 17 rfl rfl)
theorem dJ4_newCapacity_44 : decode cJ4_newCapacity 44 = .ok (.dup, 1) := dk_89 (dk_at dksJ4_newCapacity_1 20 rfl rfl)
theorem dJ4_newCapacity_45 : decode cJ4_newCapacity 45 = .ok (.ldc 122, 2) := dk_18 122 (dk_at dksJ4_newCapacity_1 21 rfl rfl)
theorem dJ4_newCapacity_47 : decode cJ4_newCapacity 47 = .ok (.invokespecial 124, 3) := dk_183 0 124 (dk_at dksJ4_newCapacity_2 0 rfl rfl)
theorem dJ4_newCapacity_50 : decode cJ4_newCapacity 50 = .ok (.athrow, 1) := dk_191 (dk_at dksJ4_newCapacity_2 3 rfl rfl)
theorem dJ4_newCapacity_51 : decode cJ4_newCapacity 51 = .ok (.iload 5, 2) := dk_21 5 (dk_at dksJ4_newCapacity_2 4 rfl rfl)
theorem dJ4_newCapacity_53 : decode cJ4_newCapacity 53 = .ok (.aload_n 0, 1) := dk_42 (dk_at dksJ4_newCapacity_2 6 rfl rfl)
theorem dJ4_newCapacity_54 : decode cJ4_newCapacity 54 = .ok (.getfield 22, 3) := dk_180 0 22 (dk_at dksJ4_newCapacity_2 7 rfl rfl)
theorem dJ4_newCapacity_57 : decode cJ4_newCapacity 57 = .ok (.ishr, 1) := dk_122 (dk_at dksJ4_newCapacity_2 10 rfl rfl)
theorem dJ4_newCapacity_58 : decode cJ4_newCapacity 58 = .ok (.ireturn, 1) := dk_172 (dk_at dksJ4_newCapacity_2 11 rfl rfl)
abbrev cJ4_isLatin1 : ByteArray := prog_28_method_68_code
def yJ4_isLatin1 : MethodName := ⟨RJ4, "isLatin1", "()Z"⟩
def dkwJ4_isLatin1_0 : List UInt8 := [178, 0, 18, 153, 0, 14, 42, 180, 0, 22, 154, 0, 7, 4, 167, 0, 4, 3, 172]
abbrev dktJ4_isLatin1_0 : List UInt8 := dkwJ4_isLatin1_0 ++ []
theorem dksJ4_isLatin1_0 : cJ4_isLatin1.data.toList.drop 0 = dktJ4_isLatin1_0 := by decide +kernel
theorem dJ4_isLatin1_0 : decode cJ4_isLatin1 0 = .ok (.getstatic 18, 3) := dk_178 0 18 (dk_at dksJ4_isLatin1_0 0 rfl rfl)
theorem dJ4_isLatin1_3 : decode cJ4_isLatin1 3 = .ok (.ifCond .eq 14, 3) := dk_153 0 14 (dk_at dksJ4_isLatin1_0 3 rfl rfl)
theorem dJ4_isLatin1_6 : decode cJ4_isLatin1 6 = .ok (.aload_n 0, 1) := dk_42 (dk_at dksJ4_isLatin1_0 6 rfl rfl)
theorem dJ4_isLatin1_7 : decode cJ4_isLatin1 7 = .ok (.getfield 22, 3) := dk_180 0 22 (dk_at dksJ4_isLatin1_0 7 rfl rfl)
theorem dJ4_isLatin1_10 : decode cJ4_isLatin1 10 = .ok (.ifCond .ne 7, 3) := dk_154 0 7 (dk_at dksJ4_isLatin1_0 10 rfl rfl)
theorem dJ4_isLatin1_13 : decode cJ4_isLatin1 13 = .ok (.iconst 1, 1) := dk_4 (dk_at dksJ4_isLatin1_0 13 rfl rfl)
theorem dJ4_isLatin1_14 : decode cJ4_isLatin1 14 = .ok (.goto 4, 3) := dk_167 0 4 (dk_at dksJ4_isLatin1_0 14 rfl rfl)
theorem dJ4_isLatin1_17 : decode cJ4_isLatin1 17 = .ok (.iconst 0, 1) := dk_3 (dk_at dksJ4_isLatin1_0 17 rfl rfl)
theorem dJ4_isLatin1_18 : decode cJ4_isLatin1 18 = .ok (.ireturn, 1) := dk_172 (dk_at dksJ4_isLatin1_0 18 rfl rfl)
abbrev cJ4_inflate : ByteArray := prog_28_method_11_code
def yJ4_inflate : MethodName := ⟨RJ4, "inflate", "()V"⟩
def dkwJ4_inflate_1 : List UInt8 := [42, 180, 0, 79, 184, 0, 125, 42, 43, 181, 0, 15, 42, 4, 181, 0, 22, 177]
abbrev dktJ4_inflate_1 : List UInt8 := dkwJ4_inflate_1 ++ []
def dkwJ4_inflate_0 : List UInt8 := [42, 182, 0, 83, 154, 0, 4, 177, 42, 180, 0, 15, 190, 184, 0, 26, 76, 42, 180, 0, 15, 3, 43, 3]
abbrev dktJ4_inflate_0 : List UInt8 := dkwJ4_inflate_0 ++ dktJ4_inflate_1
theorem dksJ4_inflate_0 : cJ4_inflate.data.toList.drop 0 = dktJ4_inflate_0 := by decide +kernel
theorem dksJ4_inflate_1 : cJ4_inflate.data.toList.drop 24 = dktJ4_inflate_1 := dk_seg dksJ4_inflate_0 24 rfl rfl
theorem dJ4_inflate_0 : decode cJ4_inflate 0 = .ok (.aload_n 0, 1) := dk_42 (dk_at dksJ4_inflate_0 0 rfl rfl)
theorem dJ4_inflate_1 : decode cJ4_inflate 1 = .ok (.invokevirtual 83, 3) := dk_182 0 83 (dk_at dksJ4_inflate_0 1 rfl rfl)
theorem dJ4_inflate_4 : decode cJ4_inflate 4 = .ok (.ifCond .ne 4, 3) := dk_154 0 4 (dk_at dksJ4_inflate_0 4 rfl rfl)
theorem dJ4_inflate_7 : decode cJ4_inflate 7 = .ok (.return_, 1) := dk_177 (dk_at dksJ4_inflate_0 7 rfl rfl)
theorem dJ4_inflate_8 : decode cJ4_inflate 8 = .ok (.aload_n 0, 1) := dk_42 (dk_at dksJ4_inflate_0 8 rfl rfl)
theorem dJ4_inflate_9 : decode cJ4_inflate 9 = .ok (.getfield 15, 3) := dk_180 0 15 (dk_at dksJ4_inflate_0 9 rfl rfl)
theorem dJ4_inflate_12 : decode cJ4_inflate 12 = .ok (.arraylength, 1) := dk_190 (dk_at dksJ4_inflate_0 12 rfl rfl)
theorem dJ4_inflate_13 : decode cJ4_inflate 13 = .ok (.invokestatic 26, 3) := dk_184 0 26 (dk_at dksJ4_inflate_0 13 rfl rfl)
theorem dJ4_inflate_16 : decode cJ4_inflate 16 = .ok (.astore_n 1, 1) := dk_76 (dk_at dksJ4_inflate_0 16 rfl rfl)
theorem dJ4_inflate_17 : decode cJ4_inflate 17 = .ok (.aload_n 0, 1) := dk_42 (dk_at dksJ4_inflate_0 17 rfl rfl)
theorem dJ4_inflate_18 : decode cJ4_inflate 18 = .ok (.getfield 15, 3) := dk_180 0 15 (dk_at dksJ4_inflate_0 18 rfl rfl)
theorem dJ4_inflate_21 : decode cJ4_inflate 21 = .ok (.iconst 0, 1) := dk_3 (dk_at dksJ4_inflate_0 21 rfl rfl)
theorem dJ4_inflate_22 : decode cJ4_inflate 22 = .ok (.aload_n 1, 1) := dk_43 (dk_at dksJ4_inflate_0 22 rfl rfl)
theorem dJ4_inflate_23 : decode cJ4_inflate 23 = .ok (.iconst 0, 1) := dk_3 (dk_at dksJ4_inflate_0 23 rfl rfl)
theorem dJ4_inflate_24 : decode cJ4_inflate 24 = .ok (.aload_n 0, 1) := dk_42 (dk_at dksJ4_inflate_1 0 rfl rfl)
theorem dJ4_inflate_25 : decode cJ4_inflate 25 = .ok (.getfield 79, 3) := dk_180 0 79 (dk_at dksJ4_inflate_1 1 rfl rfl)
theorem dJ4_inflate_28 : decode cJ4_inflate 28 = .ok (.invokestatic 125, 3) := dk_184 0 125 (dk_at dksJ4_inflate_1 4 rfl rfl)
theorem dJ4_inflate_31 : decode cJ4_inflate 31 = .ok (.aload_n 0, 1) := dk_42 (dk_at dksJ4_inflate_1 7 rfl rfl)
theorem dJ4_inflate_32 : decode cJ4_inflate 32 = .ok (.aload_n 1, 1) := dk_43 (dk_at dksJ4_inflate_1 8 rfl rfl)
theorem dJ4_inflate_33 : decode cJ4_inflate 33 = .ok (.putfield 15, 3) := dk_181 0 15 (dk_at dksJ4_inflate_1 9 rfl rfl)
theorem dJ4_inflate_36 : decode cJ4_inflate 36 = .ok (.aload_n 0, 1) := dk_42 (dk_at dksJ4_inflate_1 12 rfl rfl)
theorem dJ4_inflate_37 : decode cJ4_inflate 37 = .ok (.iconst 1, 1) := dk_4 (dk_at dksJ4_inflate_1 13 rfl rfl)
theorem dJ4_inflate_38 : decode cJ4_inflate 38 = .ok (.putfield 22, 3) := dk_181 0 22 (dk_at dksJ4_inflate_1 14 rfl rfl)
theorem dJ4_inflate_41 : decode cJ4_inflate 41 = .ok (.return_, 1) := dk_177 (dk_at dksJ4_inflate_1 17 rfl rfl)
abbrev cJ4_getValue : ByteArray := prog_28_method_64_code
def yJ4_getValue : MethodName := ⟨RJ4, "getValue", "()[B"⟩
theorem dJ4_getValue_0 : decode cJ4_getValue 0 = .ok (.aload_n 0, 1) := by decide +kernel
theorem dJ4_getValue_1 : decode cJ4_getValue 1 = .ok (.getfield 15, 3) := by decide +kernel
theorem dJ4_getValue_4 : decode cJ4_getValue 4 = .ok (.areturn, 1) := by decide +kernel
abbrev cJ4_append_2 : ByteArray := prog_28_method_32_code
def yJ4_append_2 : MethodName := ⟨RJ4, "append", "(I)Ljava/lang/AbstractStringBuilder;"⟩
def dkwJ4_append_2_2 : List UInt8 := [42, 29, 181, 0, 79, 42, 176]
abbrev dktJ4_append_2_2 : List UInt8 := dkwJ4_append_2_2 ++ []
def dkwJ4_append_2_1 : List UInt8 := [27, 29, 42, 180, 0, 15, 184, 0, 248, 87, 167, 0, 14, 27, 28, 29, 42, 180, 0, 15, 184, 0, 251, 87]
abbrev dktJ4_append_2_1 : List UInt8 := dkwJ4_append_2_1 ++ dktJ4_append_2_2
def dkwJ4_append_2_0 : List UInt8 := [42, 180, 0, 79, 61, 28, 27, 184, 0, 245, 96, 62, 42, 29, 182, 0, 100, 42, 182, 0, 83, 153, 0, 16]
abbrev dktJ4_append_2_0 : List UInt8 := dkwJ4_append_2_0 ++ dktJ4_append_2_1
theorem dksJ4_append_2_0 : cJ4_append_2.data.toList.drop 0 = dktJ4_append_2_0 := by decide +kernel
theorem dksJ4_append_2_1 : cJ4_append_2.data.toList.drop 24 = dktJ4_append_2_1 := dk_seg dksJ4_append_2_0 24 rfl rfl
theorem dksJ4_append_2_2 : cJ4_append_2.data.toList.drop 48 = dktJ4_append_2_2 := dk_seg dksJ4_append_2_1 24 rfl rfl
theorem dJ4_append_2_0 : decode cJ4_append_2 0 = .ok (.aload_n 0, 1) := dk_42 (dk_at dksJ4_append_2_0 0 rfl rfl)
theorem dJ4_append_2_1 : decode cJ4_append_2 1 = .ok (.getfield 79, 3) := dk_180 0 79 (dk_at dksJ4_append_2_0 1 rfl rfl)
theorem dJ4_append_2_4 : decode cJ4_append_2 4 = .ok (.istore_n 2, 1) := dk_61 (dk_at dksJ4_append_2_0 4 rfl rfl)
theorem dJ4_append_2_5 : decode cJ4_append_2 5 = .ok (.iload_n 2, 1) := dk_28 (dk_at dksJ4_append_2_0 5 rfl rfl)
theorem dJ4_append_2_6 : decode cJ4_append_2 6 = .ok (.iload_n 1, 1) := dk_27 (dk_at dksJ4_append_2_0 6 rfl rfl)
theorem dJ4_append_2_7 : decode cJ4_append_2 7 = .ok (.invokestatic 245, 3) := dk_184 0 245 (dk_at dksJ4_append_2_0 7 rfl rfl)
theorem dJ4_append_2_10 : decode cJ4_append_2 10 = .ok (.iadd, 1) := dk_96 (dk_at dksJ4_append_2_0 10 rfl rfl)
theorem dJ4_append_2_11 : decode cJ4_append_2 11 = .ok (.istore_n 3, 1) := dk_62 (dk_at dksJ4_append_2_0 11 rfl rfl)
theorem dJ4_append_2_12 : decode cJ4_append_2 12 = .ok (.aload_n 0, 1) := dk_42 (dk_at dksJ4_append_2_0 12 rfl rfl)
theorem dJ4_append_2_13 : decode cJ4_append_2 13 = .ok (.iload_n 3, 1) := dk_29 (dk_at dksJ4_append_2_0 13 rfl rfl)
theorem dJ4_append_2_14 : decode cJ4_append_2 14 = .ok (.invokevirtual 100, 3) := dk_182 0 100 (dk_at dksJ4_append_2_0 14 rfl rfl)
theorem dJ4_append_2_17 : decode cJ4_append_2 17 = .ok (.aload_n 0, 1) := dk_42 (dk_at dksJ4_append_2_0 17 rfl rfl)
theorem dJ4_append_2_18 : decode cJ4_append_2 18 = .ok (.invokevirtual 83, 3) := dk_182 0 83 (dk_at dksJ4_append_2_0 18 rfl rfl)
theorem dJ4_append_2_21 : decode cJ4_append_2 21 = .ok (.ifCond .eq 16, 3) := dk_153 0 16 (dk_at dksJ4_append_2_0 21 rfl rfl)
theorem dJ4_append_2_24 : decode cJ4_append_2 24 = .ok (.iload_n 1, 1) := dk_27 (dk_at dksJ4_append_2_1 0 rfl rfl)
theorem dJ4_append_2_25 : decode cJ4_append_2 25 = .ok (.iload_n 3, 1) := dk_29 (dk_at dksJ4_append_2_1 1 rfl rfl)
theorem dJ4_append_2_26 : decode cJ4_append_2 26 = .ok (.aload_n 0, 1) := dk_42 (dk_at dksJ4_append_2_1 2 rfl rfl)
theorem dJ4_append_2_27 : decode cJ4_append_2 27 = .ok (.getfield 15, 3) := dk_180 0 15 (dk_at dksJ4_append_2_1 3 rfl rfl)
theorem dJ4_append_2_30 : decode cJ4_append_2 30 = .ok (.invokestatic 248, 3) := dk_184 0 248 (dk_at dksJ4_append_2_1 6 rfl rfl)
theorem dJ4_append_2_33 : decode cJ4_append_2 33 = .ok (.pop, 1) := dk_87 (dk_at dksJ4_append_2_1 9 rfl rfl)
theorem dJ4_append_2_34 : decode cJ4_append_2 34 = .ok (.goto 14, 3) := dk_167 0 14 (dk_at dksJ4_append_2_1 10 rfl rfl)
theorem dJ4_append_2_37 : decode cJ4_append_2 37 = .ok (.iload_n 1, 1) := dk_27 (dk_at dksJ4_append_2_1 13 rfl rfl)
theorem dJ4_append_2_38 : decode cJ4_append_2 38 = .ok (.iload_n 2, 1) := dk_28 (dk_at dksJ4_append_2_1 14 rfl rfl)
theorem dJ4_append_2_39 : decode cJ4_append_2 39 = .ok (.iload_n 3, 1) := dk_29 (dk_at dksJ4_append_2_1 15 rfl rfl)
theorem dJ4_append_2_40 : decode cJ4_append_2 40 = .ok (.aload_n 0, 1) := dk_42 (dk_at dksJ4_append_2_1 16 rfl rfl)
theorem dJ4_append_2_41 : decode cJ4_append_2 41 = .ok (.getfield 15, 3) := dk_180 0 15 (dk_at dksJ4_append_2_1 17 rfl rfl)
theorem dJ4_append_2_44 : decode cJ4_append_2 44 = .ok (.invokestatic 251, 3) := dk_184 0 251 (dk_at dksJ4_append_2_1 20 rfl rfl)
theorem dJ4_append_2_47 : decode cJ4_append_2 47 = .ok (.pop, 1) := dk_87 (dk_at dksJ4_append_2_1 23 rfl rfl)
theorem dJ4_append_2_48 : decode cJ4_append_2 48 = .ok (.aload_n 0, 1) := dk_42 (dk_at dksJ4_append_2_2 0 rfl rfl)
theorem dJ4_append_2_49 : decode cJ4_append_2 49 = .ok (.iload_n 3, 1) := dk_29 (dk_at dksJ4_append_2_2 1 rfl rfl)
theorem dJ4_append_2_50 : decode cJ4_append_2 50 = .ok (.putfield 79, 3) := dk_181 0 79 (dk_at dksJ4_append_2_2 2 rfl rfl)
theorem dJ4_append_2_53 : decode cJ4_append_2 53 = .ok (.aload_n 0, 1) := dk_42 (dk_at dksJ4_append_2_2 5 rfl rfl)
theorem dJ4_append_2_54 : decode cJ4_append_2 54 = .ok (.areturn, 1) := dk_176 (dk_at dksJ4_append_2_2 6 rfl rfl)
abbrev cJ4_append_3 : ByteArray := prog_28_method_22_code
def yJ4_append_3 : MethodName := ⟨RJ4, "append", "(Ljava/lang/String;)Ljava/lang/AbstractStringBuilder;"⟩
def dkwJ4_append_3_1 : List UInt8 := [42, 42, 180, 0, 79, 43, 182, 0, 208, 42, 89, 180, 0, 79, 28, 96, 181, 0, 79, 42, 176]
abbrev dktJ4_append_3_1 : List UInt8 := dkwJ4_append_3_1 ++ []
def dkwJ4_append_3_0 : List UInt8 := [43, 199, 0, 8, 42, 182, 0, 204, 176, 43, 182, 0, 32, 61, 42, 42, 180, 0, 79, 28, 96, 182, 0, 100]
abbrev dktJ4_append_3_0 : List UInt8 := dkwJ4_append_3_0 ++ dktJ4_append_3_1
theorem dksJ4_append_3_0 : cJ4_append_3.data.toList.drop 0 = dktJ4_append_3_0 := by decide +kernel
theorem dksJ4_append_3_1 : cJ4_append_3.data.toList.drop 24 = dktJ4_append_3_1 := dk_seg dksJ4_append_3_0 24 rfl rfl
theorem dJ4_append_3_0 : decode cJ4_append_3 0 = .ok (.aload_n 1, 1) := dk_43 (dk_at dksJ4_append_3_0 0 rfl rfl)
theorem dJ4_append_3_1 : decode cJ4_append_3 1 = .ok (.ifnonnull 8, 3) := dk_199 0 8 (dk_at dksJ4_append_3_0 1 rfl rfl)
theorem dJ4_append_3_4 : decode cJ4_append_3 4 = .ok (.aload_n 0, 1) := dk_42 (dk_at dksJ4_append_3_0 4 rfl rfl)
theorem dJ4_append_3_5 : decode cJ4_append_3 5 = .ok (.invokevirtual 204, 3) := dk_182 0 204 (dk_at dksJ4_append_3_0 5 rfl rfl)
theorem dJ4_append_3_8 : decode cJ4_append_3 8 = .ok (.areturn, 1) := dk_176 (dk_at dksJ4_append_3_0 8 rfl rfl)
theorem dJ4_append_3_9 : decode cJ4_append_3 9 = .ok (.aload_n 1, 1) := dk_43 (dk_at dksJ4_append_3_0 9 rfl rfl)
theorem dJ4_append_3_10 : decode cJ4_append_3 10 = .ok (.invokevirtual 32, 3) := dk_182 0 32 (dk_at dksJ4_append_3_0 10 rfl rfl)
theorem dJ4_append_3_13 : decode cJ4_append_3 13 = .ok (.istore_n 2, 1) := dk_61 (dk_at dksJ4_append_3_0 13 rfl rfl)
theorem dJ4_append_3_14 : decode cJ4_append_3 14 = .ok (.aload_n 0, 1) := dk_42 (dk_at dksJ4_append_3_0 14 rfl rfl)
theorem dJ4_append_3_15 : decode cJ4_append_3 15 = .ok (.aload_n 0, 1) := dk_42 (dk_at dksJ4_append_3_0 15 rfl rfl)
theorem dJ4_append_3_16 : decode cJ4_append_3 16 = .ok (.getfield 79, 3) := dk_180 0 79 (dk_at dksJ4_append_3_0 16 rfl rfl)
theorem dJ4_append_3_19 : decode cJ4_append_3 19 = .ok (.iload_n 2, 1) := dk_28 (dk_at dksJ4_append_3_0 19 rfl rfl)
theorem dJ4_append_3_20 : decode cJ4_append_3 20 = .ok (.iadd, 1) := dk_96 (dk_at dksJ4_append_3_0 20 rfl rfl)
theorem dJ4_append_3_21 : decode cJ4_append_3 21 = .ok (.invokevirtual 100, 3) := dk_182 0 100 (dk_at dksJ4_append_3_0 21 rfl rfl)
theorem dJ4_append_3_24 : decode cJ4_append_3 24 = .ok (.aload_n 0, 1) := dk_42 (dk_at dksJ4_append_3_1 0 rfl rfl)
theorem dJ4_append_3_25 : decode cJ4_append_3 25 = .ok (.aload_n 0, 1) := dk_42 (dk_at dksJ4_append_3_1 1 rfl rfl)
theorem dJ4_append_3_26 : decode cJ4_append_3 26 = .ok (.getfield 79, 3) := dk_180 0 79 (dk_at dksJ4_append_3_1 2 rfl rfl)
theorem dJ4_append_3_29 : decode cJ4_append_3 29 = .ok (.aload_n 1, 1) := dk_43 (dk_at dksJ4_append_3_1 5 rfl rfl)
theorem dJ4_append_3_30 : decode cJ4_append_3 30 = .ok (.invokevirtual 208, 3) := dk_182 0 208 (dk_at dksJ4_append_3_1 6 rfl rfl)
theorem dJ4_append_3_33 : decode cJ4_append_3 33 = .ok (.aload_n 0, 1) := dk_42 (dk_at dksJ4_append_3_1 9 rfl rfl)
theorem dJ4_append_3_34 : decode cJ4_append_3 34 = .ok (.dup, 1) := dk_89 (dk_at dksJ4_append_3_1 10 rfl rfl)
theorem dJ4_append_3_35 : decode cJ4_append_3 35 = .ok (.getfield 79, 3) := dk_180 0 79 (dk_at dksJ4_append_3_1 11 rfl rfl)
theorem dJ4_append_3_38 : decode cJ4_append_3 38 = .ok (.iload_n 2, 1) := dk_28 (dk_at dksJ4_append_3_1 14 rfl rfl)
theorem dJ4_append_3_39 : decode cJ4_append_3 39 = .ok (.iadd, 1) := dk_96 (dk_at dksJ4_append_3_1 15 rfl rfl)
theorem dJ4_append_3_40 : decode cJ4_append_3 40 = .ok (.putfield 79, 3) := dk_181 0 79 (dk_at dksJ4_append_3_1 16 rfl rfl)
theorem dJ4_append_3_43 : decode cJ4_append_3 43 = .ok (.aload_n 0, 1) := dk_42 (dk_at dksJ4_append_3_1 19 rfl rfl)
theorem dJ4_append_3_44 : decode cJ4_append_3 44 = .ok (.areturn, 1) := dk_176 (dk_at dksJ4_append_3_1 20 rfl rfl)
abbrev cJ4_appendNull : ByteArray := prog_28_method_26_code
def yJ4_appendNull : MethodName := ⟨RJ4, "appendNull", "()Ljava/lang/AbstractStringBuilder;"⟩
def dkwJ4_appendNull_3 : List UInt8 := [184, 0, 226, 60, 42, 27, 181, 0, 79, 42, 176]
abbrev dktJ4_appendNull_3 : List UInt8 := dkwJ4_appendNull_3 ++ []
def dkwJ4_appendNull_2 : List UInt8 := [16, 108, 84, 44, 27, 132, 1, 1, 16, 108, 84, 167, 0, 17, 44, 27, 16, 110, 16, 117, 16, 108, 16, 108]
abbrev dktJ4_appendNull_2 : List UInt8 := dkwJ4_appendNull_2 ++ dktJ4_appendNull_3
def dkwJ4_appendNull_1 : List UInt8 := [153, 0, 38, 44, 27, 132, 1, 1, 16, 110, 84, 44, 27, 132, 1, 1, 16, 117, 84, 44, 27, 132, 1, 1]
abbrev dktJ4_appendNull_1 : List UInt8 := dkwJ4_appendNull_1 ++ dktJ4_appendNull_2
def dkwJ4_appendNull_0 : List UInt8 := [42, 42, 180, 0, 79, 7, 96, 182, 0, 100, 42, 180, 0, 79, 60, 42, 180, 0, 15, 77, 42, 182, 0, 83]
abbrev dktJ4_appendNull_0 : List UInt8 := dkwJ4_appendNull_0 ++ dktJ4_appendNull_1
theorem dksJ4_appendNull_0 : cJ4_appendNull.data.toList.drop 0 = dktJ4_appendNull_0 := by decide +kernel
theorem dksJ4_appendNull_1 : cJ4_appendNull.data.toList.drop 24 = dktJ4_appendNull_1 := dk_seg dksJ4_appendNull_0 24 rfl rfl
theorem dksJ4_appendNull_2 : cJ4_appendNull.data.toList.drop 48 = dktJ4_appendNull_2 := dk_seg dksJ4_appendNull_1 24 rfl rfl
theorem dksJ4_appendNull_3 : cJ4_appendNull.data.toList.drop 72 = dktJ4_appendNull_3 := dk_seg dksJ4_appendNull_2 24 rfl rfl
theorem dJ4_appendNull_0 : decode cJ4_appendNull 0 = .ok (.aload_n 0, 1) := dk_42 (dk_at dksJ4_appendNull_0 0 rfl rfl)
theorem dJ4_appendNull_1 : decode cJ4_appendNull 1 = .ok (.aload_n 0, 1) := dk_42 (dk_at dksJ4_appendNull_0 1 rfl rfl)
theorem dJ4_appendNull_2 : decode cJ4_appendNull 2 = .ok (.getfield 79, 3) := dk_180 0 79 (dk_at dksJ4_appendNull_0 2 rfl rfl)
theorem dJ4_appendNull_5 : decode cJ4_appendNull 5 = .ok (.iconst 4, 1) := dk_7 (dk_at dksJ4_appendNull_0 5 rfl rfl)
theorem dJ4_appendNull_6 : decode cJ4_appendNull 6 = .ok (.iadd, 1) := dk_96 (dk_at dksJ4_appendNull_0 6 rfl rfl)
theorem dJ4_appendNull_7 : decode cJ4_appendNull 7 = .ok (.invokevirtual 100, 3) := dk_182 0 100 (dk_at dksJ4_appendNull_0 7 rfl rfl)
theorem dJ4_appendNull_10 : decode cJ4_appendNull 10 = .ok (.aload_n 0, 1) := dk_42 (dk_at dksJ4_appendNull_0 10 rfl rfl)
theorem dJ4_appendNull_11 : decode cJ4_appendNull 11 = .ok (.getfield 79, 3) := dk_180 0 79 (dk_at dksJ4_appendNull_0 11 rfl rfl)
theorem dJ4_appendNull_14 : decode cJ4_appendNull 14 = .ok (.istore_n 1, 1) := dk_60 (dk_at dksJ4_appendNull_0 14 rfl rfl)
theorem dJ4_appendNull_15 : decode cJ4_appendNull 15 = .ok (.aload_n 0, 1) := dk_42 (dk_at dksJ4_appendNull_0 15 rfl rfl)
theorem dJ4_appendNull_16 : decode cJ4_appendNull 16 = .ok (.getfield 15, 3) := dk_180 0 15 (dk_at dksJ4_appendNull_0 16 rfl rfl)
theorem dJ4_appendNull_19 : decode cJ4_appendNull 19 = .ok (.astore_n 2, 1) := dk_77 (dk_at dksJ4_appendNull_0 19 rfl rfl)
theorem dJ4_appendNull_20 : decode cJ4_appendNull 20 = .ok (.aload_n 0, 1) := dk_42 (dk_at dksJ4_appendNull_0 20 rfl rfl)
theorem dJ4_appendNull_21 : decode cJ4_appendNull 21 = .ok (.invokevirtual 83, 3) := dk_182 0 83 (dk_at dksJ4_appendNull_0 21 rfl rfl)
theorem dJ4_appendNull_24 : decode cJ4_appendNull 24 = .ok (.ifCond .eq 38, 3) := dk_153 0 38 (dk_at dksJ4_appendNull_1 0 rfl rfl)
theorem dJ4_appendNull_27 : decode cJ4_appendNull 27 = .ok (.aload_n 2, 1) := dk_44 (dk_at dksJ4_appendNull_1 3 rfl rfl)
theorem dJ4_appendNull_28 : decode cJ4_appendNull 28 = .ok (.iload_n 1, 1) := dk_27 (dk_at dksJ4_appendNull_1 4 rfl rfl)
theorem dJ4_appendNull_29 : decode cJ4_appendNull 29 = .ok (.iinc 1 1, 3) := dk_132 1 1 (dk_at dksJ4_appendNull_1 5 rfl rfl)
theorem dJ4_appendNull_32 : decode cJ4_appendNull 32 = .ok (.bipush 110, 2) := dk_16 110 (dk_at dksJ4_appendNull_1 8 rfl rfl)
theorem dJ4_appendNull_34 : decode cJ4_appendNull 34 = .ok (.bastore, 1) := dk_84 (dk_at dksJ4_appendNull_1 10 rfl rfl)
theorem dJ4_appendNull_35 : decode cJ4_appendNull 35 = .ok (.aload_n 2, 1) := dk_44 (dk_at dksJ4_appendNull_1 11 rfl rfl)
theorem dJ4_appendNull_36 : decode cJ4_appendNull 36 = .ok (.iload_n 1, 1) := dk_27 (dk_at dksJ4_appendNull_1 12 rfl rfl)
theorem dJ4_appendNull_37 : decode cJ4_appendNull 37 = .ok (.iinc 1 1, 3) := dk_132 1 1 (dk_at dksJ4_appendNull_1 13 rfl rfl)
theorem dJ4_appendNull_40 : decode cJ4_appendNull 40 = .ok (.bipush 117, 2) := dk_16 117 (dk_at dksJ4_appendNull_1 16 rfl rfl)
theorem dJ4_appendNull_42 : decode cJ4_appendNull 42 = .ok (.bastore, 1) := dk_84 (dk_at dksJ4_appendNull_1 18 rfl rfl)
theorem dJ4_appendNull_43 : decode cJ4_appendNull 43 = .ok (.aload_n 2, 1) := dk_44 (dk_at dksJ4_appendNull_1 19 rfl rfl)
theorem dJ4_appendNull_44 : decode cJ4_appendNull 44 = .ok (.iload_n 1, 1) := dk_27 (dk_at dksJ4_appendNull_1 20 rfl rfl)
theorem dJ4_appendNull_45 : decode cJ4_appendNull 45 = .ok (.iinc 1 1, 3) := dk_132 1 1 (dk_at dksJ4_appendNull_1 21 rfl rfl)
theorem dJ4_appendNull_48 : decode cJ4_appendNull 48 = .ok (.bipush 108, 2) := dk_16 108 (dk_at dksJ4_appendNull_2 0 rfl rfl)
theorem dJ4_appendNull_50 : decode cJ4_appendNull 50 = .ok (.bastore, 1) := dk_84 (dk_at dksJ4_appendNull_2 2 rfl rfl)
theorem dJ4_appendNull_51 : decode cJ4_appendNull 51 = .ok (.aload_n 2, 1) := dk_44 (dk_at dksJ4_appendNull_2 3 rfl rfl)
theorem dJ4_appendNull_52 : decode cJ4_appendNull 52 = .ok (.iload_n 1, 1) := dk_27 (dk_at dksJ4_appendNull_2 4 rfl rfl)
theorem dJ4_appendNull_53 : decode cJ4_appendNull 53 = .ok (.iinc 1 1, 3) := dk_132 1 1 (dk_at dksJ4_appendNull_2 5 rfl rfl)
theorem dJ4_appendNull_56 : decode cJ4_appendNull 56 = .ok (.bipush 108, 2) := dk_16 108 (dk_at dksJ4_appendNull_2 8 rfl rfl)
theorem dJ4_appendNull_58 : decode cJ4_appendNull 58 = .ok (.bastore, 1) := dk_84 (dk_at dksJ4_appendNull_2 10 rfl rfl)
theorem dJ4_appendNull_59 : decode cJ4_appendNull 59 = .ok (.goto 17, 3) := dk_167 0 17 (dk_at dksJ4_appendNull_2 11 rfl rfl)
theorem dJ4_appendNull_62 : decode cJ4_appendNull 62 = .ok (.aload_n 2, 1) := dk_44 (dk_at dksJ4_appendNull_2 14 rfl rfl)
theorem dJ4_appendNull_63 : decode cJ4_appendNull 63 = .ok (.iload_n 1, 1) := dk_27 (dk_at dksJ4_appendNull_2 15 rfl rfl)
theorem dJ4_appendNull_64 : decode cJ4_appendNull 64 = .ok (.bipush 110, 2) := dk_16 110 (dk_at dksJ4_appendNull_2 16 rfl rfl)
theorem dJ4_appendNull_66 : decode cJ4_appendNull 66 = .ok (.bipush 117, 2) := dk_16 117 (dk_at dksJ4_appendNull_2 18 rfl rfl)
theorem dJ4_appendNull_68 : decode cJ4_appendNull 68 = .ok (.bipush 108, 2) := dk_16 108 (dk_at dksJ4_appendNull_2 20 rfl rfl)
theorem dJ4_appendNull_70 : decode cJ4_appendNull 70 = .ok (.bipush 108, 2) := dk_16 108 (dk_at dksJ4_appendNull_2 22 rfl rfl)
theorem dJ4_appendNull_72 : decode cJ4_appendNull 72 = .ok (.invokestatic 226, 3) := dk_184 0 226 (dk_at dksJ4_appendNull_3 0 rfl rfl)
theorem dJ4_appendNull_75 : decode cJ4_appendNull 75 = .ok (.istore_n 1, 1) := dk_60 (dk_at dksJ4_appendNull_3 3 rfl rfl)
theorem dJ4_appendNull_76 : decode cJ4_appendNull 76 = .ok (.aload_n 0, 1) := dk_42 (dk_at dksJ4_appendNull_3 4 rfl rfl)
theorem dJ4_appendNull_77 : decode cJ4_appendNull 77 = .ok (.iload_n 1, 1) := dk_27 (dk_at dksJ4_appendNull_3 5 rfl rfl)
theorem dJ4_appendNull_78 : decode cJ4_appendNull 78 = .ok (.putfield 79, 3) := dk_181 0 79 (dk_at dksJ4_appendNull_3 6 rfl rfl)
theorem dJ4_appendNull_81 : decode cJ4_appendNull 81 = .ok (.aload_n 0, 1) := dk_42 (dk_at dksJ4_appendNull_3 9 rfl rfl)
theorem dJ4_appendNull_82 : decode cJ4_appendNull 82 = .ok (.areturn, 1) := dk_176 (dk_at dksJ4_appendNull_3 10 rfl rfl)
abbrev cJ4_putStringAt : ByteArray := prog_28_method_73_code
def yJ4_putStringAt : MethodName := ⟨RJ4, "putStringAt", "(ILjava/lang/String;)V"⟩
def dkwJ4_putStringAt_0 : List UInt8 := [42, 44, 182, 1, 141, 44, 42, 180, 0, 15, 27, 42, 180, 0, 22, 182, 1, 143, 177]
abbrev dktJ4_putStringAt_0 : List UInt8 := dkwJ4_putStringAt_0 ++ []
theorem dksJ4_putStringAt_0 : cJ4_putStringAt.data.toList.drop 0 = dktJ4_putStringAt_0 := by decide +kernel
theorem dJ4_putStringAt_0 : decode cJ4_putStringAt 0 = .ok (.aload_n 0, 1) := dk_42 (dk_at dksJ4_putStringAt_0 0 rfl rfl)
theorem dJ4_putStringAt_1 : decode cJ4_putStringAt 1 = .ok (.aload_n 2, 1) := dk_44 (dk_at dksJ4_putStringAt_0 1 rfl rfl)
theorem dJ4_putStringAt_2 : decode cJ4_putStringAt 2 = .ok (.invokevirtual 397, 3) := dk_182 1 141 (dk_at dksJ4_putStringAt_0 2 rfl rfl)
theorem dJ4_putStringAt_5 : decode cJ4_putStringAt 5 = .ok (.aload_n 2, 1) := dk_44 (dk_at dksJ4_putStringAt_0 5 rfl rfl)
theorem dJ4_putStringAt_6 : decode cJ4_putStringAt 6 = .ok (.aload_n 0, 1) := dk_42 (dk_at dksJ4_putStringAt_0 6 rfl rfl)
theorem dJ4_putStringAt_7 : decode cJ4_putStringAt 7 = .ok (.getfield 15, 3) := dk_180 0 15 (dk_at dksJ4_putStringAt_0 7 rfl rfl)
theorem dJ4_putStringAt_10 : decode cJ4_putStringAt 10 = .ok (.iload_n 1, 1) := dk_27 (dk_at dksJ4_putStringAt_0 10 rfl rfl)
theorem dJ4_putStringAt_11 : decode cJ4_putStringAt 11 = .ok (.aload_n 0, 1) := dk_42 (dk_at dksJ4_putStringAt_0 11 rfl rfl)
theorem dJ4_putStringAt_12 : decode cJ4_putStringAt 12 = .ok (.getfield 22, 3) := dk_180 0 22 (dk_at dksJ4_putStringAt_0 12 rfl rfl)
theorem dJ4_putStringAt_15 : decode cJ4_putStringAt 15 = .ok (.invokevirtual 399, 3) := dk_182 1 143 (dk_at dksJ4_putStringAt_0 15 rfl rfl)
theorem dJ4_putStringAt_18 : decode cJ4_putStringAt 18 = .ok (.return_, 1) := dk_177 (dk_at dksJ4_putStringAt_0 18 rfl rfl)
abbrev cJ4_inflateIfNeededFor : ByteArray := prog_28_method_71_code
def yJ4_inflateIfNeededFor : MethodName := ⟨RJ4, "inflateIfNeededFor", "(Ljava/lang/String;)V"⟩
def dkwJ4_inflateIfNeededFor_0 : List UInt8 := [178, 0, 18, 153, 0, 18, 42, 180, 0, 22, 43, 182, 0, 40, 159, 0, 7, 42, 182, 0, 195, 177]
abbrev dktJ4_inflateIfNeededFor_0 : List UInt8 := dkwJ4_inflateIfNeededFor_0 ++ []
theorem dksJ4_inflateIfNeededFor_0 : cJ4_inflateIfNeededFor.data.toList.drop 0 = dktJ4_inflateIfNeededFor_0 := by decide +kernel
theorem dJ4_inflateIfNeededFor_0 : decode cJ4_inflateIfNeededFor 0 = .ok (.getstatic 18, 3) := dk_178 0 18 (dk_at dksJ4_inflateIfNeededFor_0 0 rfl rfl)
theorem dJ4_inflateIfNeededFor_3 : decode cJ4_inflateIfNeededFor 3 = .ok (.ifCond .eq 18, 3) := dk_153 0 18 (dk_at dksJ4_inflateIfNeededFor_0 3 rfl rfl)
theorem dJ4_inflateIfNeededFor_6 : decode cJ4_inflateIfNeededFor 6 = .ok (.aload_n 0, 1) := dk_42 (dk_at dksJ4_inflateIfNeededFor_0 6 rfl rfl)
theorem dJ4_inflateIfNeededFor_7 : decode cJ4_inflateIfNeededFor 7 = .ok (.getfield 22, 3) := dk_180 0 22 (dk_at dksJ4_inflateIfNeededFor_0 7 rfl rfl)
theorem dJ4_inflateIfNeededFor_10 : decode cJ4_inflateIfNeededFor 10 = .ok (.aload_n 1, 1) := dk_43 (dk_at dksJ4_inflateIfNeededFor_0 10 rfl rfl)
theorem dJ4_inflateIfNeededFor_11 : decode cJ4_inflateIfNeededFor 11 = .ok (.invokevirtual 40, 3) := dk_182 0 40 (dk_at dksJ4_inflateIfNeededFor_0 11 rfl rfl)
theorem dJ4_inflateIfNeededFor_14 : decode cJ4_inflateIfNeededFor 14 = .ok (.if_icmp .eq 7, 3) := dk_159 0 7 (dk_at dksJ4_inflateIfNeededFor_0 14 rfl rfl)
theorem dJ4_inflateIfNeededFor_17 : decode cJ4_inflateIfNeededFor 17 = .ok (.aload_n 0, 1) := dk_42 (dk_at dksJ4_inflateIfNeededFor_0 17 rfl rfl)
theorem dJ4_inflateIfNeededFor_18 : decode cJ4_inflateIfNeededFor 18 = .ok (.invokevirtual 195, 3) := dk_182 0 195 (dk_at dksJ4_inflateIfNeededFor_0 18 rfl rfl)
theorem dJ4_inflateIfNeededFor_21 : decode cJ4_inflateIfNeededFor 21 = .ok (.return_, 1) := dk_177 (dk_at dksJ4_inflateIfNeededFor_0 21 rfl rfl)
abbrev cJ4_setLength : ByteArray := prog_28_method_13_code
def yJ4_setLength : MethodName := ⟨RJ4, "setLength", "(I)V"⟩
def dkwJ4_setLength_3 : List UInt8 := [164, 0, 8, 42, 4, 181, 0, 73, 42, 27, 181, 0, 79, 177]
abbrev dktJ4_setLength_3 : List UInt8 := dkwJ4_setLength_3 ++ []
def dkwJ4_setLength_2 : List UInt8 := [167, 0, 31, 42, 180, 0, 15, 42, 180, 0, 79, 27, 184, 0, 137, 167, 0, 16, 42, 180, 0, 79, 27]
abbrev dktJ4_setLength_2 : List UInt8 := dkwJ4_setLength_2 ++ dktJ4_setLength_3
def dkwJ4_setLength_1 : List UInt8 := [162, 0, 40, 42, 182, 0, 83, 153, 0, 18, 42, 180, 0, 15, 42, 180, 0, 79, 27, 184, 0, 133]
abbrev dktJ4_setLength_1 : List UInt8 := dkwJ4_setLength_1 ++ dktJ4_setLength_2
def dkwJ4_setLength_0 : List UInt8 := [27, 156, 0, 12, 187, 0, 129, 89, 27, 183, 0, 131, 191, 42, 27, 182, 0, 100, 42, 180, 0, 79, 27]
abbrev dktJ4_setLength_0 : List UInt8 := dkwJ4_setLength_0 ++ dktJ4_setLength_1
theorem dksJ4_setLength_0 : cJ4_setLength.data.toList.drop 0 = dktJ4_setLength_0 := by decide +kernel
theorem dksJ4_setLength_1 : cJ4_setLength.data.toList.drop 23 = dktJ4_setLength_1 := dk_seg dksJ4_setLength_0 23 rfl rfl
theorem dksJ4_setLength_2 : cJ4_setLength.data.toList.drop 45 = dktJ4_setLength_2 := dk_seg dksJ4_setLength_1 22 rfl rfl
theorem dksJ4_setLength_3 : cJ4_setLength.data.toList.drop 68 = dktJ4_setLength_3 := dk_seg dksJ4_setLength_2 23 rfl rfl
theorem dJ4_setLength_0 : decode cJ4_setLength 0 = .ok (.iload_n 1, 1) := dk_27 (dk_at dksJ4_setLength_0 0 rfl rfl)
theorem dJ4_setLength_1 : decode cJ4_setLength 1 = .ok (.ifCond .ge 12, 3) := dk_156 0 12 (dk_at dksJ4_setLength_0 1 rfl rfl)
theorem dJ4_setLength_4 : decode cJ4_setLength 4 = .ok (.new 129, 3) := dk_187 0 129 (dk_at dksJ4_setLength_0 4 rfl rfl)
theorem dJ4_setLength_7 : decode cJ4_setLength 7 = .ok (.dup, 1) := dk_89 (dk_at dksJ4_setLength_0 7 rfl rfl)
theorem dJ4_setLength_8 : decode cJ4_setLength 8 = .ok (.iload_n 1, 1) := dk_27 (dk_at dksJ4_setLength_0 8 rfl rfl)
theorem dJ4_setLength_9 : decode cJ4_setLength 9 = .ok (.invokespecial 131, 3) := dk_183 0 131 (dk_at dksJ4_setLength_0 9 rfl rfl)
theorem dJ4_setLength_12 : decode cJ4_setLength 12 = .ok (.athrow, 1) := dk_191 (dk_at dksJ4_setLength_0 12 rfl rfl)
theorem dJ4_setLength_13 : decode cJ4_setLength 13 = .ok (.aload_n 0, 1) := dk_42 (dk_at dksJ4_setLength_0 13 rfl rfl)
theorem dJ4_setLength_14 : decode cJ4_setLength 14 = .ok (.iload_n 1, 1) := dk_27 (dk_at dksJ4_setLength_0 14 rfl rfl)
theorem dJ4_setLength_15 : decode cJ4_setLength 15 = .ok (.invokevirtual 100, 3) := dk_182 0 100 (dk_at dksJ4_setLength_0 15 rfl rfl)
theorem dJ4_setLength_18 : decode cJ4_setLength 18 = .ok (.aload_n 0, 1) := dk_42 (dk_at dksJ4_setLength_0 18 rfl rfl)
theorem dJ4_setLength_19 : decode cJ4_setLength 19 = .ok (.getfield 79, 3) := dk_180 0 79 (dk_at dksJ4_setLength_0 19 rfl rfl)
theorem dJ4_setLength_22 : decode cJ4_setLength 22 = .ok (.iload_n 1, 1) := dk_27 (dk_at dksJ4_setLength_0 22 rfl rfl)
theorem dJ4_setLength_23 : decode cJ4_setLength 23 = .ok (.if_icmp .ge 40, 3) := dk_162 0 40 (dk_at dksJ4_setLength_1 0 rfl rfl)
theorem dJ4_setLength_26 : decode cJ4_setLength 26 = .ok (.aload_n 0, 1) := dk_42 (dk_at dksJ4_setLength_1 3 rfl rfl)
theorem dJ4_setLength_27 : decode cJ4_setLength 27 = .ok (.invokevirtual 83, 3) := dk_182 0 83 (dk_at dksJ4_setLength_1 4 rfl rfl)
theorem dJ4_setLength_30 : decode cJ4_setLength 30 = .ok (.ifCond .eq 18, 3) := dk_153 0 18 (dk_at dksJ4_setLength_1 7 rfl rfl)
theorem dJ4_setLength_33 : decode cJ4_setLength 33 = .ok (.aload_n 0, 1) := dk_42 (dk_at dksJ4_setLength_1 10 rfl rfl)
theorem dJ4_setLength_34 : decode cJ4_setLength 34 = .ok (.getfield 15, 3) := dk_180 0 15 (dk_at dksJ4_setLength_1 11 rfl rfl)
theorem dJ4_setLength_37 : decode cJ4_setLength 37 = .ok (.aload_n 0, 1) := dk_42 (dk_at dksJ4_setLength_1 14 rfl rfl)
theorem dJ4_setLength_38 : decode cJ4_setLength 38 = .ok (.getfield 79, 3) := dk_180 0 79 (dk_at dksJ4_setLength_1 15 rfl rfl)
theorem dJ4_setLength_41 : decode cJ4_setLength 41 = .ok (.iload_n 1, 1) := dk_27 (dk_at dksJ4_setLength_1 18 rfl rfl)
theorem dJ4_setLength_42 : decode cJ4_setLength 42 = .ok (.invokestatic 133, 3) := dk_184 0 133 (dk_at dksJ4_setLength_1 19 rfl rfl)
theorem dJ4_setLength_45 : decode cJ4_setLength 45 = .ok (.goto 31, 3) := dk_167 0 31 (dk_at dksJ4_setLength_2 0 rfl rfl)
theorem dJ4_setLength_48 : decode cJ4_setLength 48 = .ok (.aload_n 0, 1) := dk_42 (dk_at dksJ4_setLength_2 3 rfl rfl)
theorem dJ4_setLength_49 : decode cJ4_setLength 49 = .ok (.getfield 15, 3) := dk_180 0 15 (dk_at dksJ4_setLength_2 4 rfl rfl)
theorem dJ4_setLength_52 : decode cJ4_setLength 52 = .ok (.aload_n 0, 1) := dk_42 (dk_at dksJ4_setLength_2 7 rfl rfl)
theorem dJ4_setLength_53 : decode cJ4_setLength 53 = .ok (.getfield 79, 3) := dk_180 0 79 (dk_at dksJ4_setLength_2 8 rfl rfl)
theorem dJ4_setLength_56 : decode cJ4_setLength 56 = .ok (.iload_n 1, 1) := dk_27 (dk_at dksJ4_setLength_2 11 rfl rfl)
theorem dJ4_setLength_57 : decode cJ4_setLength 57 = .ok (.invokestatic 137, 3) := dk_184 0 137 (dk_at dksJ4_setLength_2 12 rfl rfl)
theorem dJ4_setLength_60 : decode cJ4_setLength 60 = .ok (.goto 16, 3) := dk_167 0 16 (dk_at dksJ4_setLength_2 15 rfl rfl)
theorem dJ4_setLength_63 : decode cJ4_setLength 63 = .ok (.aload_n 0, 1) := dk_42 (dk_at dksJ4_setLength_2 18 rfl rfl)
theorem dJ4_setLength_64 : decode cJ4_setLength 64 = .ok (.getfield 79, 3) := dk_180 0 79 (dk_at dksJ4_setLength_2 19 rfl rfl)
theorem dJ4_setLength_67 : decode cJ4_setLength 67 = .ok (.iload_n 1, 1) := dk_27 (dk_at dksJ4_setLength_2 22 rfl rfl)
theorem dJ4_setLength_68 : decode cJ4_setLength 68 = .ok (.if_icmp .le 8, 3) := dk_164 0 8 (dk_at dksJ4_setLength_3 0 rfl rfl)
theorem dJ4_setLength_71 : decode cJ4_setLength 71 = .ok (.aload_n 0, 1) := dk_42 (dk_at dksJ4_setLength_3 3 rfl rfl)
theorem dJ4_setLength_72 : decode cJ4_setLength 72 = .ok (.iconst 1, 1) := dk_4 (dk_at dksJ4_setLength_3 4 rfl rfl)
theorem dJ4_setLength_73 : decode cJ4_setLength 73 = .ok (.putfield 73, 3) := dk_181 0 73 (dk_at dksJ4_setLength_3 5 rfl rfl)
theorem dJ4_setLength_76 : decode cJ4_setLength 76 = .ok (.aload_n 0, 1) := dk_42 (dk_at dksJ4_setLength_3 8 rfl rfl)
theorem dJ4_setLength_77 : decode cJ4_setLength 77 = .ok (.iload_n 1, 1) := dk_27 (dk_at dksJ4_setLength_3 9 rfl rfl)
theorem dJ4_setLength_78 : decode cJ4_setLength 78 = .ok (.putfield 79, 3) := dk_181 0 79 (dk_at dksJ4_setLength_3 10 rfl rfl)
theorem dJ4_setLength_81 : decode cJ4_setLength 81 = .ok (.return_, 1) := dk_177 (dk_at dksJ4_setLength_3 13 rfl rfl)
abbrev cJ4_compareTo : ByteArray := prog_28_method_5_code
def yJ4_compareTo : MethodName := ⟨RJ4, "compareTo", "(Ljava/lang/AbstractStringBuilder;)I"⟩
def dkwJ4_compareTo_4 : List UInt8 := [184, 0, 97, 172]
abbrev dktJ4_compareTo_4 : List UInt8 := dkwJ4_compareTo_4 ++ []
def dkwJ4_compareTo_3 : List UInt8 := [182, 0, 83, 153, 0, 15, 44, 45, 21, 4, 21, 5, 184, 0, 94, 167, 0, 12, 44, 45, 21, 4, 21, 5]
abbrev dktJ4_compareTo_3 : List UInt8 := dkwJ4_compareTo_3 ++ dktJ4_compareTo_4
def dkwJ4_compareTo_2 : List UInt8 := [45, 21, 4, 21, 5, 184, 0, 87, 167, 0, 12, 44, 45, 21, 4, 21, 5, 184, 0, 93, 172, 42]
abbrev dktJ4_compareTo_2 : List UInt8 := dkwJ4_compareTo_2 ++ dktJ4_compareTo_3
def dkwJ4_compareTo_1 : List UInt8 := [180, 0, 79, 54, 5, 42, 180, 0, 22, 43, 180, 0, 22, 160, 0, 32, 42, 182, 0, 83, 153, 0, 15, 44]
abbrev dktJ4_compareTo_1 : List UInt8 := dkwJ4_compareTo_1 ++ dktJ4_compareTo_2
def dkwJ4_compareTo_0 : List UInt8 := [42, 43, 166, 0, 5, 3, 172, 42, 180, 0, 15, 77, 43, 180, 0, 15, 78, 42, 180, 0, 79, 54, 4, 43]
abbrev dktJ4_compareTo_0 : List UInt8 := dkwJ4_compareTo_0 ++ dktJ4_compareTo_1
theorem dksJ4_compareTo_0 : cJ4_compareTo.data.toList.drop 0 = dktJ4_compareTo_0 := by decide +kernel
theorem dksJ4_compareTo_1 : cJ4_compareTo.data.toList.drop 24 = dktJ4_compareTo_1 := dk_seg dksJ4_compareTo_0 24 rfl rfl
theorem dksJ4_compareTo_2 : cJ4_compareTo.data.toList.drop 48 = dktJ4_compareTo_2 := dk_seg dksJ4_compareTo_1 24 rfl rfl
theorem dksJ4_compareTo_3 : cJ4_compareTo.data.toList.drop 70 = dktJ4_compareTo_3 := dk_seg dksJ4_compareTo_2 22 rfl rfl
theorem dksJ4_compareTo_4 : cJ4_compareTo.data.toList.drop 94 = dktJ4_compareTo_4 := dk_seg dksJ4_compareTo_3 24 rfl rfl
theorem dJ4_compareTo_0 : decode cJ4_compareTo 0 = .ok (.aload_n 0, 1) := dk_42 (dk_at dksJ4_compareTo_0 0 rfl rfl)
theorem dJ4_compareTo_1 : decode cJ4_compareTo 1 = .ok (.aload_n 1, 1) := dk_43 (dk_at dksJ4_compareTo_0 1 rfl rfl)
theorem dJ4_compareTo_2 : decode cJ4_compareTo 2 = .ok (.if_acmp .ne 5, 3) := dk_166 0 5 (dk_at dksJ4_compareTo_0 2 rfl rfl)
theorem dJ4_compareTo_5 : decode cJ4_compareTo 5 = .ok (.iconst 0, 1) := dk_3 (dk_at dksJ4_compareTo_0 5 rfl rfl)
theorem dJ4_compareTo_6 : decode cJ4_compareTo 6 = .ok (.ireturn, 1) := dk_172 (dk_at dksJ4_compareTo_0 6 rfl rfl)
theorem dJ4_compareTo_7 : decode cJ4_compareTo 7 = .ok (.aload_n 0, 1) := dk_42 (dk_at dksJ4_compareTo_0 7 rfl rfl)
theorem dJ4_compareTo_8 : decode cJ4_compareTo 8 = .ok (.getfield 15, 3) := dk_180 0 15 (dk_at dksJ4_compareTo_0 8 rfl rfl)
theorem dJ4_compareTo_11 : decode cJ4_compareTo 11 = .ok (.astore_n 2, 1) := dk_77 (dk_at dksJ4_compareTo_0 11 rfl rfl)
theorem dJ4_compareTo_12 : decode cJ4_compareTo 12 = .ok (.aload_n 1, 1) := dk_43 (dk_at dksJ4_compareTo_0 12 rfl rfl)
theorem dJ4_compareTo_13 : decode cJ4_compareTo 13 = .ok (.getfield 15, 3) := dk_180 0 15 (dk_at dksJ4_compareTo_0 13 rfl rfl)
theorem dJ4_compareTo_16 : decode cJ4_compareTo 16 = .ok (.astore_n 3, 1) := dk_78 (dk_at dksJ4_compareTo_0 16 rfl rfl)
theorem dJ4_compareTo_17 : decode cJ4_compareTo 17 = .ok (.aload_n 0, 1) := dk_42 (dk_at dksJ4_compareTo_0 17 rfl rfl)
theorem dJ4_compareTo_18 : decode cJ4_compareTo 18 = .ok (.getfield 79, 3) := dk_180 0 79 (dk_at dksJ4_compareTo_0 18 rfl rfl)
theorem dJ4_compareTo_21 : decode cJ4_compareTo 21 = .ok (.istore 4, 2) := dk_54 4 (dk_at dksJ4_compareTo_0 21 rfl rfl)
theorem dJ4_compareTo_23 : decode cJ4_compareTo 23 = .ok (.aload_n 1, 1) := dk_43 (dk_at dksJ4_compareTo_0 23 rfl rfl)
theorem dJ4_compareTo_24 : decode cJ4_compareTo 24 = .ok (.getfield 79, 3) := dk_180 0 79 (dk_at dksJ4_compareTo_1 0 rfl rfl)
theorem dJ4_compareTo_27 : decode cJ4_compareTo 27 = .ok (.istore 5, 2) := dk_54 5 (dk_at dksJ4_compareTo_1 3 rfl rfl)
theorem dJ4_compareTo_29 : decode cJ4_compareTo 29 = .ok (.aload_n 0, 1) := dk_42 (dk_at dksJ4_compareTo_1 5 rfl rfl)
theorem dJ4_compareTo_30 : decode cJ4_compareTo 30 = .ok (.getfield 22, 3) := dk_180 0 22 (dk_at dksJ4_compareTo_1 6 rfl rfl)
theorem dJ4_compareTo_33 : decode cJ4_compareTo 33 = .ok (.aload_n 1, 1) := dk_43 (dk_at dksJ4_compareTo_1 9 rfl rfl)
theorem dJ4_compareTo_34 : decode cJ4_compareTo 34 = .ok (.getfield 22, 3) := dk_180 0 22 (dk_at dksJ4_compareTo_1 10 rfl rfl)
theorem dJ4_compareTo_37 : decode cJ4_compareTo 37 = .ok (.if_icmp .ne 32, 3) := dk_160 0 32 (dk_at dksJ4_compareTo_1 13 rfl rfl)
theorem dJ4_compareTo_40 : decode cJ4_compareTo 40 = .ok (.aload_n 0, 1) := dk_42 (dk_at dksJ4_compareTo_1 16 rfl rfl)
theorem dJ4_compareTo_41 : decode cJ4_compareTo 41 = .ok (.invokevirtual 83, 3) := dk_182 0 83 (dk_at dksJ4_compareTo_1 17 rfl rfl)
theorem dJ4_compareTo_44 : decode cJ4_compareTo 44 = .ok (.ifCond .eq 15, 3) := dk_153 0 15 (dk_at dksJ4_compareTo_1 20 rfl rfl)
theorem dJ4_compareTo_47 : decode cJ4_compareTo 47 = .ok (.aload_n 2, 1) := dk_44 (dk_at dksJ4_compareTo_1 23 rfl rfl)
theorem dJ4_compareTo_48 : decode cJ4_compareTo 48 = .ok (.aload_n 3, 1) := dk_45 (dk_at dksJ4_compareTo_2 0 rfl rfl)
theorem dJ4_compareTo_49 : decode cJ4_compareTo 49 = .ok (.iload 4, 2) := dk_21 4 (dk_at dksJ4_compareTo_2 1 rfl rfl)
theorem dJ4_compareTo_51 : decode cJ4_compareTo 51 = .ok (.iload 5, 2) := dk_21 5 (dk_at dksJ4_compareTo_2 3 rfl rfl)
theorem dJ4_compareTo_53 : decode cJ4_compareTo 53 = .ok (.invokestatic 87, 3) := dk_184 0 87 (dk_at dksJ4_compareTo_2 5 rfl rfl)
theorem dJ4_compareTo_56 : decode cJ4_compareTo 56 = .ok (.goto 12, 3) := dk_167 0 12 (dk_at dksJ4_compareTo_2 8 rfl rfl)
theorem dJ4_compareTo_59 : decode cJ4_compareTo 59 = .ok (.aload_n 2, 1) := dk_44 (dk_at dksJ4_compareTo_2 11 rfl rfl)
theorem dJ4_compareTo_60 : decode cJ4_compareTo 60 = .ok (.aload_n 3, 1) := dk_45 (dk_at dksJ4_compareTo_2 12 rfl rfl)
theorem dJ4_compareTo_61 : decode cJ4_compareTo 61 = .ok (.iload 4, 2) := dk_21 4 (dk_at dksJ4_compareTo_2 13 rfl rfl)
theorem dJ4_compareTo_63 : decode cJ4_compareTo 63 = .ok (.iload 5, 2) := dk_21 5 (dk_at dksJ4_compareTo_2 15 rfl rfl)
theorem dJ4_compareTo_65 : decode cJ4_compareTo 65 = .ok (.invokestatic 93, 3) := dk_184 0 93 (dk_at dksJ4_compareTo_2 17 rfl rfl)
theorem dJ4_compareTo_68 : decode cJ4_compareTo 68 = .ok (.ireturn, 1) := dk_172 (dk_at dksJ4_compareTo_2 20 rfl rfl)
theorem dJ4_compareTo_69 : decode cJ4_compareTo 69 = .ok (.aload_n 0, 1) := dk_42 (dk_at dksJ4_compareTo_2 21 rfl rfl)
theorem dJ4_compareTo_70 : decode cJ4_compareTo 70 = .ok (.invokevirtual 83, 3) := dk_182 0 83 (dk_at dksJ4_compareTo_3 0 rfl rfl)
theorem dJ4_compareTo_73 : decode cJ4_compareTo 73 = .ok (.ifCond .eq 15, 3) := dk_153 0 15 (dk_at dksJ4_compareTo_3 3 rfl rfl)
theorem dJ4_compareTo_76 : decode cJ4_compareTo 76 = .ok (.aload_n 2, 1) := dk_44 (dk_at dksJ4_compareTo_3 6 rfl rfl)
theorem dJ4_compareTo_77 : decode cJ4_compareTo 77 = .ok (.aload_n 3, 1) := dk_45 (dk_at dksJ4_compareTo_3 7 rfl rfl)
theorem dJ4_compareTo_78 : decode cJ4_compareTo 78 = .ok (.iload 4, 2) := dk_21 4 (dk_at dksJ4_compareTo_3 8 rfl rfl)
theorem dJ4_compareTo_80 : decode cJ4_compareTo 80 = .ok (.iload 5, 2) := dk_21 5 (dk_at dksJ4_compareTo_3 10 rfl rfl)
theorem dJ4_compareTo_82 : decode cJ4_compareTo 82 = .ok (.invokestatic 94, 3) := dk_184 0 94 (dk_at dksJ4_compareTo_3 12 rfl rfl)
theorem dJ4_compareTo_85 : decode cJ4_compareTo 85 = .ok (.goto 12, 3) := dk_167 0 12 (dk_at dksJ4_compareTo_3 15 rfl rfl)
theorem dJ4_compareTo_88 : decode cJ4_compareTo 88 = .ok (.aload_n 2, 1) := dk_44 (dk_at dksJ4_compareTo_3 18 rfl rfl)
theorem dJ4_compareTo_89 : decode cJ4_compareTo 89 = .ok (.aload_n 3, 1) := dk_45 (dk_at dksJ4_compareTo_3 19 rfl rfl)
theorem dJ4_compareTo_90 : decode cJ4_compareTo 90 = .ok (.iload 4, 2) := dk_21 4 (dk_at dksJ4_compareTo_3 20 rfl rfl)
theorem dJ4_compareTo_92 : decode cJ4_compareTo 92 = .ok (.iload 5, 2) := dk_21 5 (dk_at dksJ4_compareTo_3 22 rfl rfl)
theorem dJ4_compareTo_94 : decode cJ4_compareTo 94 = .ok (.invokestatic 97, 3) := dk_184 0 97 (dk_at dksJ4_compareTo_4 0 rfl rfl)
theorem dJ4_compareTo_97 : decode cJ4_compareTo 97 = .ok (.ireturn, 1) := dk_172 (dk_at dksJ4_compareTo_4 3 rfl rfl)
theorem q79 : (Jvm.Cond.initialized "java/lang/AbstractStringBuilder") ∈ lw_all := lw_g (lw_at lw_m1 7 rfl) rfl
theorem q225 : (Jvm.Cond.instanceMethod ({ cls := "java/lang/AbstractStringBuilder", name := "<init>", desc := "(I)V" } : Jvm.MethodName)) ∈ lw_all := lw_g (lw_at lw_m1 153 rfl) rfl
theorem q226 : (Jvm.Cond.code ({ cls := "java/lang/AbstractStringBuilder", name := "<init>", desc := "(I)V" } : Jvm.MethodName) prog_28_method_2_code (2 : Nat) (Option.none : Option Jvm.ClassFile.FieldType)) ∈ lw_all := lw_g (lw_at lw_m1 154 rfl) rfl
theorem q227 : (Jvm.Cond.methodLink "java/lang/AbstractStringBuilder" (3 : Nat) ({ cls := "java/lang/Object", name := "<init>", desc := "()V" } : Jvm.MethodName)) ∈ lw_all := lw_g (lw_at lw_m1 155 rfl) rfl
theorem q228 : (Jvm.Cond.fieldLink "java/lang/AbstractStringBuilder" (18 : Nat) "java/lang/String" "COMPACT_STRINGS" "Z") ∈ lw_all := lw_g (lw_at lw_m1 156 rfl) rfl
theorem q230 : (Jvm.Cond.methodLink "java/lang/AbstractStringBuilder" (26 : Nat) ({ cls := "java/lang/StringUTF16", name := "newBytesFor", desc := "(I)[B" } : Jvm.MethodName)) ∈ lw_all := lw_g (lw_at lw_m1 158 rfl) rfl
theorem q237 : (Jvm.Cond.fieldLink "java/lang/AbstractStringBuilder" (15 : Nat) "java/lang/AbstractStringBuilder" "value" "[B") ∈ lw_all := lw_g (lw_at lw_m1 165 rfl) rfl
theorem q238 : (Jvm.Cond.fieldLink "java/lang/AbstractStringBuilder" (22 : Nat) "java/lang/AbstractStringBuilder" "coder" "B") ∈ lw_all := lw_g (lw_at lw_m1 166 rfl) rfl
theorem q239 : (Jvm.Cond.fieldLink "java/lang/AbstractStringBuilder" (73 : Nat) "java/lang/AbstractStringBuilder" "maybeLatin1" "Z") ∈ lw_all := lw_g (lw_at lw_m1 167 rfl) rfl
theorem q241 : (Jvm.Cond.fieldLink "java/lang/AbstractStringBuilder" (79 : Nat) "java/lang/AbstractStringBuilder" "count" "I") ∈ lw_all := lw_g (lw_at lw_m1 169 rfl) rfl
theorem q243 : (Jvm.Cond.soleField "java/lang/AbstractStringBuilder" "value") ∈ lw_all := lw_g (lw_at lw_m1 171 rfl) rfl
theorem q245 : (Jvm.Cond.soleField "java/lang/AbstractStringBuilder" "coder") ∈ lw_all := lw_g (lw_at lw_m1 173 rfl) rfl
theorem q247 : (Jvm.Cond.soleField "java/lang/AbstractStringBuilder" "maybeLatin1") ∈ lw_all := lw_g (lw_at lw_m1 175 rfl) rfl
theorem q249 : (Jvm.Cond.soleField "java/lang/AbstractStringBuilder" "count") ∈ lw_all := lw_g (lw_at lw_m1 177 rfl) rfl
theorem q590 : (Jvm.Cond.instanceMethod ({ cls := "java/lang/AbstractStringBuilder", name := "length", desc := "()I" } : Jvm.MethodName)) ∈ lw_all := lw_g (lw_at lw_m3 38 rfl) rfl
theorem q591 : (Jvm.Cond.code ({ cls := "java/lang/AbstractStringBuilder", name := "length", desc := "()I" } : Jvm.MethodName) prog_28_method_6_code (1 : Nat) (Option.some Jvm.ClassFile.FieldType.int)) ∈ lw_all := lw_g (lw_at lw_m3 39 rfl) rfl
theorem q615 : (Jvm.Cond.instanceMethod ({ cls := "java/lang/AbstractStringBuilder", name := "append", desc := "(C)Ljava/lang/AbstractStringBuilder;" } : Jvm.MethodName)) ∈ lw_all := lw_g (lw_at lw_m3 63 rfl) rfl
theorem q616 : (Jvm.Cond.code ({ cls := "java/lang/AbstractStringBuilder", name := "append", desc := "(C)Ljava/lang/AbstractStringBuilder;" } : Jvm.MethodName) prog_28_method_31_code (2 : Nat) (Option.some (Jvm.ClassFile.FieldType.object "java/lang/AbstractStringBuilder"))) ∈ lw_all := lw_g (lw_at lw_m3 64 rfl) rfl
theorem q617 : (Jvm.Cond.methodLink "java/lang/AbstractStringBuilder" (100 : Nat) ({ cls := "java/lang/AbstractStringBuilder", name := "ensureCapacityInternal", desc := "(I)V" } : Jvm.MethodName)) ∈ lw_all := lw_g (lw_at lw_m3 65 rfl) rfl
theorem q618 : (Jvm.Cond.privateMethod ({ cls := "java/lang/AbstractStringBuilder", name := "ensureCapacityInternal", desc := "(I)V" } : Jvm.MethodName)) ∈ lw_tbl := lw_at lw_m3 66 rfl
theorem q619 : (Jvm.Cond.instanceMethod ({ cls := "java/lang/AbstractStringBuilder", name := "ensureCapacityInternal", desc := "(I)V" } : Jvm.MethodName)) ∈ lw_all := lw_g (lw_at lw_m3 67 rfl) rfl
theorem q620 : (Jvm.Cond.code ({ cls := "java/lang/AbstractStringBuilder", name := "ensureCapacityInternal", desc := "(I)V" } : Jvm.MethodName) prog_28_method_9_code (3 : Nat) (Option.none : Option Jvm.ClassFile.FieldType)) ∈ lw_all := lw_g (lw_at lw_m3 68 rfl) rfl
theorem q621 : (Jvm.Cond.methodLink "java/lang/AbstractStringBuilder" (104 : Nat) ({ cls := "java/lang/AbstractStringBuilder", name := "newCapacity", desc := "(I)I" } : Jvm.MethodName)) ∈ lw_all := lw_g (lw_at lw_m3 69 rfl) rfl
theorem q622 : (Jvm.Cond.privateMethod ({ cls := "java/lang/AbstractStringBuilder", name := "newCapacity", desc := "(I)I" } : Jvm.MethodName)) ∈ lw_tbl := lw_at lw_m3 70 rfl
theorem q623 : (Jvm.Cond.instanceMethod ({ cls := "java/lang/AbstractStringBuilder", name := "newCapacity", desc := "(I)I" } : Jvm.MethodName)) ∈ lw_all := lw_g (lw_at lw_m3 71 rfl) rfl
theorem q624 : (Jvm.Cond.code ({ cls := "java/lang/AbstractStringBuilder", name := "newCapacity", desc := "(I)I" } : Jvm.MethodName) prog_28_method_10_code (6 : Nat) (Option.some Jvm.ClassFile.FieldType.int)) ∈ lw_all := lw_g (lw_at lw_m3 72 rfl) rfl
theorem q625 : (Jvm.Cond.methodLink "java/lang/AbstractStringBuilder" (114 : Nat) ({ cls := "jdk/internal/util/ArraysSupport", name := "newLength", desc := "(III)I" } : Jvm.MethodName)) ∈ lw_all := lw_g (lw_at lw_m3 73 rfl) rfl
theorem q626 : (Jvm.Cond.constant "java/lang/AbstractStringBuilder" (39 : Nat) (2147483647 : Int32)) ∈ lw_all := lw_g (lw_at lw_m3 74 rfl) rfl
theorem q627 : (Jvm.Cond.methodLink "java/lang/AbstractStringBuilder" (108 : Nat) ({ cls := "java/util/Arrays", name := "copyOf", desc := "([BI)[B" } : Jvm.MethodName)) ∈ lw_all := lw_g (lw_at lw_m3 75 rfl) rfl
theorem q637 : (Jvm.Cond.methodLink "java/lang/AbstractStringBuilder" (83 : Nat) ({ cls := "java/lang/AbstractStringBuilder", name := "isLatin1", desc := "()Z" } : Jvm.MethodName)) ∈ lw_all := lw_g (lw_at lw_m3 85 rfl) rfl
theorem q638 : (Jvm.Cond.instanceMethod ({ cls := "java/lang/AbstractStringBuilder", name := "isLatin1", desc := "()Z" } : Jvm.MethodName)) ∈ lw_all := lw_g (lw_at lw_m3 86 rfl) rfl
theorem q639 : (Jvm.Cond.sameMethod "java/lang/AbstractStringBuilder" "java/lang/AbstractStringBuilder" "isLatin1" "()Z") ∈ lw_all := lw_g (lw_at lw_m3 87 rfl) rfl
theorem q641 : (Jvm.Cond.code ({ cls := "java/lang/AbstractStringBuilder", name := "isLatin1", desc := "()Z" } : Jvm.MethodName) prog_28_method_68_code (1 : Nat) (Option.some Jvm.ClassFile.FieldType.boolean)) ∈ lw_all := lw_g (lw_at lw_m3 89 rfl) rfl
theorem q642 : (Jvm.Cond.methodLink "java/lang/AbstractStringBuilder" (191 : Nat) ({ cls := "java/lang/StringLatin1", name := "canEncode", desc := "(C)Z" } : Jvm.MethodName)) ∈ lw_all := lw_g (lw_at lw_m3 90 rfl) rfl
theorem q645 : (Jvm.Cond.methodLink "java/lang/AbstractStringBuilder" (195 : Nat) ({ cls := "java/lang/AbstractStringBuilder", name := "inflate", desc := "()V" } : Jvm.MethodName)) ∈ lw_all := lw_g (lw_at lw_m3 93 rfl) rfl
theorem q646 : (Jvm.Cond.privateMethod ({ cls := "java/lang/AbstractStringBuilder", name := "inflate", desc := "()V" } : Jvm.MethodName)) ∈ lw_tbl := lw_at lw_m3 94 rfl
theorem q647 : (Jvm.Cond.instanceMethod ({ cls := "java/lang/AbstractStringBuilder", name := "inflate", desc := "()V" } : Jvm.MethodName)) ∈ lw_all := lw_g (lw_at lw_m3 95 rfl) rfl
theorem q648 : (Jvm.Cond.code ({ cls := "java/lang/AbstractStringBuilder", name := "inflate", desc := "()V" } : Jvm.MethodName) prog_28_method_11_code (2 : Nat) (Option.none : Option Jvm.ClassFile.FieldType)) ∈ lw_all := lw_g (lw_at lw_m3 96 rfl) rfl
theorem q649 : (Jvm.Cond.methodLink "java/lang/AbstractStringBuilder" (125 : Nat) ({ cls := "java/lang/StringLatin1", name := "inflate", desc := "([BI[BII)V" } : Jvm.MethodName)) ∈ lw_all := lw_g (lw_at lw_m3 97 rfl) rfl
theorem q678 : (Jvm.Cond.methodLink "java/lang/AbstractStringBuilder" (197 : Nat) ({ cls := "java/lang/StringUTF16", name := "putCharSB", desc := "([BII)V" } : Jvm.MethodName)) ∈ lw_all := lw_g (lw_at lw_m3 126 rfl) rfl
theorem q733 : (Jvm.Cond.instanceMethod ({ cls := "java/lang/AbstractStringBuilder", name := "getValue", desc := "()[B" } : Jvm.MethodName)) ∈ lw_all := lw_g (lw_at lw_m3 181 rfl) rfl
theorem q734 : (Jvm.Cond.sameMethod "java/lang/AbstractStringBuilder" "java/lang/AbstractStringBuilder" "getValue" "()[B") ∈ lw_all := lw_g (lw_at lw_m3 182 rfl) rfl
theorem q736 : (Jvm.Cond.code ({ cls := "java/lang/AbstractStringBuilder", name := "getValue", desc := "()[B" } : Jvm.MethodName) prog_28_method_64_code (1 : Nat) (Option.some (Jvm.ClassFile.FieldType.array Jvm.ClassFile.FieldType.byte))) ∈ lw_all := lw_g (lw_at lw_m3 184 rfl) rfl
theorem q756 : (Jvm.Cond.instanceMethod ({ cls := "java/lang/AbstractStringBuilder", name := "append", desc := "(I)Ljava/lang/AbstractStringBuilder;" } : Jvm.MethodName)) ∈ lw_all := lw_g (lw_at lw_m3 204 rfl) rfl
theorem q757 : (Jvm.Cond.code ({ cls := "java/lang/AbstractStringBuilder", name := "append", desc := "(I)Ljava/lang/AbstractStringBuilder;" } : Jvm.MethodName) prog_28_method_32_code (4 : Nat) (Option.some (Jvm.ClassFile.FieldType.object "java/lang/AbstractStringBuilder"))) ∈ lw_all := lw_g (lw_at lw_m3 205 rfl) rfl
theorem q758 : (Jvm.Cond.methodLink "java/lang/AbstractStringBuilder" (245 : Nat) ({ cls := "java/lang/Integer", name := "stringSize", desc := "(I)I" } : Jvm.MethodName)) ∈ lw_all := lw_g (lw_at lw_m3 206 rfl) rfl
theorem q761 : (Jvm.Cond.methodLink "java/lang/AbstractStringBuilder" (248 : Nat) ({ cls := "java/lang/Integer", name := "getChars", desc := "(II[B)I" } : Jvm.MethodName)) ∈ lw_all := lw_g (lw_at lw_m3 209 rfl) rfl
theorem q768 : (Jvm.Cond.methodLink "java/lang/AbstractStringBuilder" (251 : Nat) ({ cls := "java/lang/StringUTF16", name := "getChars", desc := "(III[B)I" } : Jvm.MethodName)) ∈ lw_all := lw_g (lw_at lw_m3 216 rfl) rfl
theorem q791 : (Jvm.Cond.instanceMethod ({ cls := "java/lang/AbstractStringBuilder", name := "append", desc := "(Ljava/lang/String;)Ljava/lang/AbstractStringBuilder;" } : Jvm.MethodName)) ∈ lw_all := lw_g (lw_at lw_m3 239 rfl) rfl
theorem q792 : (Jvm.Cond.code ({ cls := "java/lang/AbstractStringBuilder", name := "append", desc := "(Ljava/lang/String;)Ljava/lang/AbstractStringBuilder;" } : Jvm.MethodName) prog_28_method_22_code (3 : Nat) (Option.some (Jvm.ClassFile.FieldType.object "java/lang/AbstractStringBuilder"))) ∈ lw_all := lw_g (lw_at lw_m4 0 rfl) rfl
theorem q793 : (Jvm.Cond.methodLink "java/lang/AbstractStringBuilder" (204 : Nat) ({ cls := "java/lang/AbstractStringBuilder", name := "appendNull", desc := "()Ljava/lang/AbstractStringBuilder;" } : Jvm.MethodName)) ∈ lw_all := lw_g (lw_at lw_m4 1 rfl) rfl
theorem q794 : (Jvm.Cond.privateMethod ({ cls := "java/lang/AbstractStringBuilder", name := "appendNull", desc := "()Ljava/lang/AbstractStringBuilder;" } : Jvm.MethodName)) ∈ lw_tbl := lw_at lw_m4 2 rfl
theorem q795 : (Jvm.Cond.instanceMethod ({ cls := "java/lang/AbstractStringBuilder", name := "appendNull", desc := "()Ljava/lang/AbstractStringBuilder;" } : Jvm.MethodName)) ∈ lw_all := lw_g (lw_at lw_m4 3 rfl) rfl
theorem q796 : (Jvm.Cond.code ({ cls := "java/lang/AbstractStringBuilder", name := "appendNull", desc := "()Ljava/lang/AbstractStringBuilder;" } : Jvm.MethodName) prog_28_method_26_code (3 : Nat) (Option.some (Jvm.ClassFile.FieldType.object "java/lang/AbstractStringBuilder"))) ∈ lw_all := lw_g (lw_at lw_m4 4 rfl) rfl
theorem q797 : (Jvm.Cond.methodLink "java/lang/AbstractStringBuilder" (226 : Nat) ({ cls := "java/lang/StringUTF16", name := "putCharsAt", desc := "([BICCCC)I" } : Jvm.MethodName)) ∈ lw_all := lw_g (lw_at lw_m4 5 rfl) rfl
theorem q800 : (Jvm.Cond.methodLink "java/lang/AbstractStringBuilder" (32 : Nat) ({ cls := "java/lang/String", name := "length", desc := "()I" } : Jvm.MethodName)) ∈ lw_all := lw_g (lw_at lw_m4 8 rfl) rfl
theorem q809 : (Jvm.Cond.methodLink "java/lang/AbstractStringBuilder" (208 : Nat) ({ cls := "java/lang/AbstractStringBuilder", name := "putStringAt", desc := "(ILjava/lang/String;)V" } : Jvm.MethodName)) ∈ lw_all := lw_g (lw_at lw_m4 17 rfl) rfl
theorem q810 : (Jvm.Cond.privateMethod ({ cls := "java/lang/AbstractStringBuilder", name := "putStringAt", desc := "(ILjava/lang/String;)V" } : Jvm.MethodName)) ∈ lw_tbl := lw_at lw_m4 18 rfl
theorem q811 : (Jvm.Cond.instanceMethod ({ cls := "java/lang/AbstractStringBuilder", name := "putStringAt", desc := "(ILjava/lang/String;)V" } : Jvm.MethodName)) ∈ lw_all := lw_g (lw_at lw_m4 19 rfl) rfl
theorem q812 : (Jvm.Cond.code ({ cls := "java/lang/AbstractStringBuilder", name := "putStringAt", desc := "(ILjava/lang/String;)V" } : Jvm.MethodName) prog_28_method_73_code (3 : Nat) (Option.none : Option Jvm.ClassFile.FieldType)) ∈ lw_all := lw_g (lw_at lw_m4 20 rfl) rfl
theorem q813 : (Jvm.Cond.methodLink "java/lang/AbstractStringBuilder" (397 : Nat) ({ cls := "java/lang/AbstractStringBuilder", name := "inflateIfNeededFor", desc := "(Ljava/lang/String;)V" } : Jvm.MethodName)) ∈ lw_all := lw_g (lw_at lw_m4 21 rfl) rfl
theorem q814 : (Jvm.Cond.privateMethod ({ cls := "java/lang/AbstractStringBuilder", name := "inflateIfNeededFor", desc := "(Ljava/lang/String;)V" } : Jvm.MethodName)) ∈ lw_tbl := lw_at lw_m4 22 rfl
theorem q815 : (Jvm.Cond.instanceMethod ({ cls := "java/lang/AbstractStringBuilder", name := "inflateIfNeededFor", desc := "(Ljava/lang/String;)V" } : Jvm.MethodName)) ∈ lw_all := lw_g (lw_at lw_m4 23 rfl) rfl
theorem q816 : (Jvm.Cond.code ({ cls := "java/lang/AbstractStringBuilder", name := "inflateIfNeededFor", desc := "(Ljava/lang/String;)V" } : Jvm.MethodName) prog_28_method_71_code (2 : Nat) (Option.none : Option Jvm.ClassFile.FieldType)) ∈ lw_all := lw_g (lw_at lw_m4 24 rfl) rfl
theorem q817 : (Jvm.Cond.methodLink "java/lang/AbstractStringBuilder" (40 : Nat) ({ cls := "java/lang/String", name := "coder", desc := "()B" } : Jvm.MethodName)) ∈ lw_all := lw_g (lw_at lw_m4 25 rfl) rfl
theorem q818 : (Jvm.Cond.methodLink "java/lang/AbstractStringBuilder" (399 : Nat) ({ cls := "java/lang/String", name := "getBytes", desc := "([BIB)V" } : Jvm.MethodName)) ∈ lw_all := lw_g (lw_at lw_m4 26 rfl) rfl
theorem q879 : (Jvm.Cond.instanceMethod ({ cls := "java/lang/AbstractStringBuilder", name := "setLength", desc := "(I)V" } : Jvm.MethodName)) ∈ lw_all := lw_g (lw_at lw_m4 87 rfl) rfl
theorem q880 : (Jvm.Cond.code ({ cls := "java/lang/AbstractStringBuilder", name := "setLength", desc := "(I)V" } : Jvm.MethodName) prog_28_method_13_code (2 : Nat) (Option.none : Option Jvm.ClassFile.FieldType)) ∈ lw_all := lw_g (lw_at lw_m4 88 rfl) rfl
theorem q881 : (Jvm.Cond.classLink "java/lang/AbstractStringBuilder" (129 : Nat) "java/lang/StringIndexOutOfBoundsException") ∈ lw_all := lw_g (lw_at lw_m4 89 rfl) rfl
theorem q883 : (Jvm.Cond.methodLink "java/lang/AbstractStringBuilder" (131 : Nat) ({ cls := "java/lang/StringIndexOutOfBoundsException", name := "<init>", desc := "(I)V" } : Jvm.MethodName)) ∈ lw_all := lw_g (lw_at lw_m4 91 rfl) rfl
theorem q903 : (Jvm.Cond.methodLink "java/lang/AbstractStringBuilder" (133 : Nat) ({ cls := "java/lang/StringLatin1", name := "fillNull", desc := "([BII)V" } : Jvm.MethodName)) ∈ lw_all := lw_g (lw_at lw_m4 111 rfl) rfl
theorem q938 : (Jvm.Cond.methodLink "java/lang/AbstractStringBuilder" (137 : Nat) ({ cls := "java/lang/StringUTF16", name := "fillNull", desc := "([BII)V" } : Jvm.MethodName)) ∈ lw_all := lw_g (lw_at lw_m4 146 rfl) rfl
theorem q2198 : (Jvm.Cond.instanceMethod ({ cls := "java/lang/AbstractStringBuilder", name := "compareTo", desc := "(Ljava/lang/AbstractStringBuilder;)I" } : Jvm.MethodName)) ∈ lw_all := lw_g (lw_at lw_m9 206 rfl) rfl
theorem q2199 : (Jvm.Cond.code ({ cls := "java/lang/AbstractStringBuilder", name := "compareTo", desc := "(Ljava/lang/AbstractStringBuilder;)I" } : Jvm.MethodName) prog_28_method_5_code (6 : Nat) (Option.some Jvm.ClassFile.FieldType.int)) ∈ lw_all := lw_g (lw_at lw_m9 207 rfl) rfl
theorem q2200 : (Jvm.Cond.methodLink "java/lang/AbstractStringBuilder" (87 : Nat) ({ cls := "java/lang/StringLatin1", name := "compareTo", desc := "([B[BII)I" } : Jvm.MethodName)) ∈ lw_all := lw_g (lw_at lw_m9 208 rfl) rfl
theorem q2201 : (Jvm.Cond.methodLink "java/lang/AbstractStringBuilder" (93 : Nat) ({ cls := "java/lang/StringUTF16", name := "compareTo", desc := "([B[BII)I" } : Jvm.MethodName)) ∈ lw_all := lw_g (lw_at lw_m9 209 rfl) rfl
theorem q2210 : (Jvm.Cond.methodLink "java/lang/AbstractStringBuilder" (94 : Nat) ({ cls := "java/lang/StringLatin1", name := "compareToUTF16", desc := "([B[BII)I" } : Jvm.MethodName)) ∈ lw_all := lw_g (lw_at lw_m9 218 rfl) rfl
theorem q2214 : (Jvm.Cond.methodLink "java/lang/AbstractStringBuilder" (97 : Nat) ({ cls := "java/lang/StringUTF16", name := "compareToLatin1", desc := "([B[BII)I" } : Jvm.MethodName)) ∈ lw_all := lw_g (lw_at lw_m9 222 rfl) rfl
theorem q3123 : (Jvm.Cond.sameMethod "java/lang/AbstractStringBuilder" "java/lang/AbstractStringBuilder" "length" "()I") ∈ lw_all := lw_g (lw_at lw_m13 171 rfl) rfl
theorem q3124 : (Jvm.Cond.sameMethod "java/lang/AbstractStringBuilder" "java/lang/AbstractStringBuilder" "append" "(C)Ljava/lang/AbstractStringBuilder;") ∈ lw_all := lw_g (lw_at lw_m13 172 rfl) rfl
theorem q3125 : (Jvm.Cond.sameMethod "java/lang/AbstractStringBuilder" "java/lang/AbstractStringBuilder" "ensureCapacityInternal" "(I)V") ∈ lw_all := lw_g (lw_at lw_m13 173 rfl) rfl
theorem q3126 : (Jvm.Cond.sameMethod "java/lang/AbstractStringBuilder" "java/lang/AbstractStringBuilder" "newCapacity" "(I)I") ∈ lw_all := lw_g (lw_at lw_m13 174 rfl) rfl
theorem q3127 : (Jvm.Cond.sameMethod "java/lang/AbstractStringBuilder" "java/lang/AbstractStringBuilder" "inflate" "()V") ∈ lw_all := lw_g (lw_at lw_m13 175 rfl) rfl
theorem q3129 : (Jvm.Cond.sameMethod "java/lang/AbstractStringBuilder" "java/lang/AbstractStringBuilder" "append" "(I)Ljava/lang/AbstractStringBuilder;") ∈ lw_all := lw_g (lw_at lw_m13 177 rfl) rfl
theorem q3130 : (Jvm.Cond.sameMethod "java/lang/AbstractStringBuilder" "java/lang/AbstractStringBuilder" "append" "(Ljava/lang/String;)Ljava/lang/AbstractStringBuilder;") ∈ lw_all := lw_g (lw_at lw_m13 178 rfl) rfl
theorem q3131 : (Jvm.Cond.sameMethod "java/lang/AbstractStringBuilder" "java/lang/AbstractStringBuilder" "appendNull" "()Ljava/lang/AbstractStringBuilder;") ∈ lw_all := lw_g (lw_at lw_m13 179 rfl) rfl
theorem q3132 : (Jvm.Cond.sameMethod "java/lang/AbstractStringBuilder" "java/lang/AbstractStringBuilder" "putStringAt" "(ILjava/lang/String;)V") ∈ lw_all := lw_g (lw_at lw_m13 180 rfl) rfl
theorem q3133 : (Jvm.Cond.sameMethod "java/lang/AbstractStringBuilder" "java/lang/AbstractStringBuilder" "inflateIfNeededFor" "(Ljava/lang/String;)V") ∈ lw_all := lw_g (lw_at lw_m13 181 rfl) rfl
theorem q3134 : (Jvm.Cond.sameMethod "java/lang/AbstractStringBuilder" "java/lang/AbstractStringBuilder" "setLength" "(I)V") ∈ lw_all := lw_g (lw_at lw_m13 182 rfl) rfl
theorem q3137 : (Jvm.Cond.sameMethod "java/lang/AbstractStringBuilder" "java/lang/AbstractStringBuilder" "compareTo" "(Ljava/lang/AbstractStringBuilder;)I") ∈ lw_all := lw_g (lw_at lw_m13 185 rfl) rfl
/-! java/lang/StringBuilder -/
set_option maxRecDepth 100000
def RJ5 : String := "java/lang/StringBuilder"
def TJ5 : u_T := fun k => match k with
  | 0 => ("java/lang/AbstractStringBuilder", "value", "[B", false)
  | 1 => ("java/lang/AbstractStringBuilder", "coder", "B", false)
  | 2 => ("java/lang/AbstractStringBuilder", "maybeLatin1", "Z", false)
  | _ => ("java/lang/AbstractStringBuilder", "count", "I", false)
def tyJ5 : Nat → FieldType := fun k => match k with
  | 0 => .array .byte
  | 1 => .byte
  | 2 => .boolean
  | _ => .int
abbrev wsJ50 : List Cond := u_ws RJ5 TJ5 4
theorem nmJ5 : ∀ a, a < 4 → ∀ b, b < 4 → a ≠ b → (TJ5 a).2.1 ≠ (TJ5 b).2.1 := by decide +kernel
theorem tyJ5_ok : ∀ k, k < 4 → parseFieldDescriptor (TJ5 k).2.2.1 = some (tyJ5 k) := by decide +kernel
abbrev cJ5_init : ByteArray := prog_48_method_1_code
def yJ5_init : MethodName := ⟨RJ5, "<init>", "()V"⟩
def dkwJ5_init_0 : List UInt8 := [42, 16, 16, 183, 0, 1, 177]
abbrev dktJ5_init_0 : List UInt8 := dkwJ5_init_0 ++ []
theorem dksJ5_init_0 : cJ5_init.data.toList.drop 0 = dktJ5_init_0 := by decide +kernel
theorem dJ5_init_0 : decode cJ5_init 0 = .ok (.aload_n 0, 1) := dk_42 (dk_at dksJ5_init_0 0 rfl rfl)
theorem dJ5_init_1 : decode cJ5_init 1 = .ok (.bipush 16, 2) := dk_16 16 (dk_at dksJ5_init_0 1 rfl rfl)
theorem dJ5_init_3 : decode cJ5_init 3 = .ok (.invokespecial 1, 3) := dk_183 0 1 (dk_at dksJ5_init_0 3 rfl rfl)
theorem dJ5_init_6 : decode cJ5_init 6 = .ok (.return_, 1) := dk_177 (dk_at dksJ5_init_0 6 rfl rfl)
abbrev cJ5_length : ByteArray := prog_48_method_93_code
def yJ5_length : MethodName := ⟨RJ5, "length", "()I"⟩
theorem dJ5_length_0 : decode cJ5_length 0 = .ok (.aload_n 0, 1) := by decide +kernel
theorem dJ5_length_1 : decode cJ5_length 1 = .ok (.invokespecial 343, 3) := by decide +kernel
theorem dJ5_length_4 : decode cJ5_length 4 = .ok (.ireturn, 1) := by decide +kernel
abbrev cJ5_append : ByteArray := prog_48_method_14_code
def yJ5_append : MethodName := ⟨RJ5, "append", "(C)Ljava/lang/StringBuilder;"⟩
def dkwJ5_append_0 : List UInt8 := [42, 27, 183, 0, 50, 87, 42, 176]
abbrev dktJ5_append_0 : List UInt8 := dkwJ5_append_0 ++ []
theorem dksJ5_append_0 : cJ5_append.data.toList.drop 0 = dktJ5_append_0 := by decide +kernel
theorem dJ5_append_0 : decode cJ5_append 0 = .ok (.aload_n 0, 1) := dk_42 (dk_at dksJ5_append_0 0 rfl rfl)
theorem dJ5_append_1 : decode cJ5_append 1 = .ok (.iload_n 1, 1) := dk_27 (dk_at dksJ5_append_0 1 rfl rfl)
theorem dJ5_append_2 : decode cJ5_append 2 = .ok (.invokespecial 50, 3) := dk_183 0 50 (dk_at dksJ5_append_0 2 rfl rfl)
theorem dJ5_append_5 : decode cJ5_append 5 = .ok (.pop, 1) := dk_87 (dk_at dksJ5_append_0 5 rfl rfl)
theorem dJ5_append_6 : decode cJ5_append 6 = .ok (.aload_n 0, 1) := dk_42 (dk_at dksJ5_append_0 6 rfl rfl)
theorem dJ5_append_7 : decode cJ5_append 7 = .ok (.areturn, 1) := dk_176 (dk_at dksJ5_append_0 7 rfl rfl)
abbrev cJ5_toString : ByteArray := prog_48_method_42_code
def yJ5_toString : MethodName := ⟨RJ5, "toString", "()Ljava/lang/String;"⟩
def dkwJ5_toString_0 : List UInt8 := [187, 0, 18, 89, 42, 183, 0, 137, 176]
abbrev dktJ5_toString_0 : List UInt8 := dkwJ5_toString_0 ++ []
theorem dksJ5_toString_0 : cJ5_toString.data.toList.drop 0 = dktJ5_toString_0 := by decide +kernel
theorem dJ5_toString_0 : decode cJ5_toString 0 = .ok (.new 18, 3) := dk_187 0 18 (dk_at dksJ5_toString_0 0 rfl rfl)
theorem dJ5_toString_3 : decode cJ5_toString 3 = .ok (.dup, 1) := dk_89 (dk_at dksJ5_toString_0 3 rfl rfl)
theorem dJ5_toString_4 : decode cJ5_toString 4 = .ok (.aload_n 0, 1) := dk_42 (dk_at dksJ5_toString_0 4 rfl rfl)
theorem dJ5_toString_5 : decode cJ5_toString 5 = .ok (.invokespecial 137, 3) := dk_183 0 137 (dk_at dksJ5_toString_0 5 rfl rfl)
theorem dJ5_toString_8 : decode cJ5_toString 8 = .ok (.areturn, 1) := dk_176 (dk_at dksJ5_toString_0 8 rfl rfl)
abbrev cJ5_append_2 : ByteArray := prog_48_method_15_code
def yJ5_append_2 : MethodName := ⟨RJ5, "append", "(I)Ljava/lang/StringBuilder;"⟩
def dkwJ5_append_2_0 : List UInt8 := [42, 27, 183, 0, 53, 87, 42, 176]
abbrev dktJ5_append_2_0 : List UInt8 := dkwJ5_append_2_0 ++ []
theorem dksJ5_append_2_0 : cJ5_append_2.data.toList.drop 0 = dktJ5_append_2_0 := by decide +kernel
theorem dJ5_append_2_0 : decode cJ5_append_2 0 = .ok (.aload_n 0, 1) := dk_42 (dk_at dksJ5_append_2_0 0 rfl rfl)
theorem dJ5_append_2_1 : decode cJ5_append_2 1 = .ok (.iload_n 1, 1) := dk_27 (dk_at dksJ5_append_2_0 1 rfl rfl)
theorem dJ5_append_2_2 : decode cJ5_append_2 2 = .ok (.invokespecial 53, 3) := dk_183 0 53 (dk_at dksJ5_append_2_0 2 rfl rfl)
theorem dJ5_append_2_5 : decode cJ5_append_2 5 = .ok (.pop, 1) := dk_87 (dk_at dksJ5_append_2_0 5 rfl rfl)
theorem dJ5_append_2_6 : decode cJ5_append_2 6 = .ok (.aload_n 0, 1) := dk_42 (dk_at dksJ5_append_2_0 6 rfl rfl)
theorem dJ5_append_2_7 : decode cJ5_append_2 7 = .ok (.areturn, 1) := dk_176 (dk_at dksJ5_append_2_0 7 rfl rfl)
abbrev cJ5_append_3 : ByteArray := prog_48_method_7_code
def yJ5_append_3 : MethodName := ⟨RJ5, "append", "(Ljava/lang/String;)Ljava/lang/StringBuilder;"⟩
def dkwJ5_append_3_0 : List UInt8 := [42, 43, 183, 0, 29, 87, 42, 176]
abbrev dktJ5_append_3_0 : List UInt8 := dkwJ5_append_3_0 ++ []
theorem dksJ5_append_3_0 : cJ5_append_3.data.toList.drop 0 = dktJ5_append_3_0 := by decide +kernel
theorem dJ5_append_3_0 : decode cJ5_append_3 0 = .ok (.aload_n 0, 1) := dk_42 (dk_at dksJ5_append_3_0 0 rfl rfl)
theorem dJ5_append_3_1 : decode cJ5_append_3 1 = .ok (.aload_n 1, 1) := dk_43 (dk_at dksJ5_append_3_0 1 rfl rfl)
theorem dJ5_append_3_2 : decode cJ5_append_3 2 = .ok (.invokespecial 29, 3) := dk_183 0 29 (dk_at dksJ5_append_3_0 2 rfl rfl)
theorem dJ5_append_3_5 : decode cJ5_append_3 5 = .ok (.pop, 1) := dk_87 (dk_at dksJ5_append_3_0 5 rfl rfl)
theorem dJ5_append_3_6 : decode cJ5_append_3 6 = .ok (.aload_n 0, 1) := dk_42 (dk_at dksJ5_append_3_0 6 rfl rfl)
theorem dJ5_append_3_7 : decode cJ5_append_3 7 = .ok (.areturn, 1) := dk_176 (dk_at dksJ5_append_3_0 7 rfl rfl)
abbrev cJ5_setLength : ByteArray := prog_48_method_89_code
def yJ5_setLength : MethodName := ⟨RJ5, "setLength", "(I)V"⟩
def dkwJ5_setLength_0 : List UInt8 := [42, 27, 183, 1, 77, 177]
abbrev dktJ5_setLength_0 : List UInt8 := dkwJ5_setLength_0 ++ []
theorem dksJ5_setLength_0 : cJ5_setLength.data.toList.drop 0 = dktJ5_setLength_0 := by decide +kernel
theorem dJ5_setLength_0 : decode cJ5_setLength 0 = .ok (.aload_n 0, 1) := dk_42 (dk_at dksJ5_setLength_0 0 rfl rfl)
theorem dJ5_setLength_1 : decode cJ5_setLength 1 = .ok (.iload_n 1, 1) := dk_27 (dk_at dksJ5_setLength_0 1 rfl rfl)
theorem dJ5_setLength_2 : decode cJ5_setLength 2 = .ok (.invokespecial 333, 3) := dk_183 1 77 (dk_at dksJ5_setLength_0 2 rfl rfl)
theorem dJ5_setLength_5 : decode cJ5_setLength 5 = .ok (.return_, 1) := dk_177 (dk_at dksJ5_setLength_0 5 rfl rfl)
abbrev cJ5_compareTo : ByteArray := prog_48_method_97_code
def yJ5_compareTo : MethodName := ⟨RJ5, "compareTo", "(Ljava/lang/Object;)I"⟩
def dkwJ5_compareTo_0 : List UInt8 := [42, 43, 192, 0, 24, 182, 1, 90, 172]
abbrev dktJ5_compareTo_0 : List UInt8 := dkwJ5_compareTo_0 ++ []
theorem dksJ5_compareTo_0 : cJ5_compareTo.data.toList.drop 0 = dktJ5_compareTo_0 := by decide +kernel
theorem dJ5_compareTo_0 : decode cJ5_compareTo 0 = .ok (.aload_n 0, 1) := dk_42 (dk_at dksJ5_compareTo_0 0 rfl rfl)
theorem dJ5_compareTo_1 : decode cJ5_compareTo 1 = .ok (.aload_n 1, 1) := dk_43 (dk_at dksJ5_compareTo_0 1 rfl rfl)
theorem dJ5_compareTo_2 : decode cJ5_compareTo 2 = .ok (.checkcast 24, 3) := dk_192 0 24 (dk_at dksJ5_compareTo_0 2 rfl rfl)
theorem dJ5_compareTo_5 : decode cJ5_compareTo 5 = .ok (.invokevirtual 346, 3) := dk_182 1 90 (dk_at dksJ5_compareTo_0 5 rfl rfl)
theorem dJ5_compareTo_8 : decode cJ5_compareTo 8 = .ok (.ireturn, 1) := dk_172 (dk_at dksJ5_compareTo_0 8 rfl rfl)
abbrev cJ5_compareTo_2 : ByteArray := prog_48_method_5_code
def yJ5_compareTo_2 : MethodName := ⟨RJ5, "compareTo", "(Ljava/lang/StringBuilder;)I"⟩
def dkwJ5_compareTo_2_0 : List UInt8 := [42, 43, 183, 0, 13, 172]
abbrev dktJ5_compareTo_2_0 : List UInt8 := dkwJ5_compareTo_2_0 ++ []
theorem dksJ5_compareTo_2_0 : cJ5_compareTo_2.data.toList.drop 0 = dktJ5_compareTo_2_0 := by decide +kernel
theorem dJ5_compareTo_2_0 : decode cJ5_compareTo_2 0 = .ok (.aload_n 0, 1) := dk_42 (dk_at dksJ5_compareTo_2_0 0 rfl rfl)
theorem dJ5_compareTo_2_1 : decode cJ5_compareTo_2 1 = .ok (.aload_n 1, 1) := dk_43 (dk_at dksJ5_compareTo_2_0 1 rfl rfl)
theorem dJ5_compareTo_2_2 : decode cJ5_compareTo_2 2 = .ok (.invokespecial 13, 3) := dk_183 0 13 (dk_at dksJ5_compareTo_2_0 2 rfl rfl)
theorem dJ5_compareTo_2_5 : decode cJ5_compareTo_2 5 = .ok (.ireturn, 1) := dk_172 (dk_at dksJ5_compareTo_2_0 5 rfl rfl)
theorem q80 : (Jvm.Cond.initialized "java/lang/StringBuilder") ∈ lw_all := lw_g (lw_at lw_m1 8 rfl) rfl
theorem q220 : (Jvm.Cond.instantiable "java/lang/StringBuilder" (4 : Nat)) ∈ lw_all := lw_g (lw_at lw_m1 148 rfl) rfl
theorem q222 : (Jvm.Cond.instanceMethod ({ cls := "java/lang/StringBuilder", name := "<init>", desc := "()V" } : Jvm.MethodName)) ∈ lw_all := lw_g (lw_at lw_m1 150 rfl) rfl
theorem q223 : (Jvm.Cond.code ({ cls := "java/lang/StringBuilder", name := "<init>", desc := "()V" } : Jvm.MethodName) prog_48_method_1_code (1 : Nat) (Option.none : Option Jvm.ClassFile.FieldType)) ∈ lw_all := lw_g (lw_at lw_m1 151 rfl) rfl
theorem q224 : (Jvm.Cond.methodLink "java/lang/StringBuilder" (1 : Nat) ({ cls := "java/lang/AbstractStringBuilder", name := "<init>", desc := "(I)V" } : Jvm.MethodName)) ∈ lw_all := lw_g (lw_at lw_m1 152 rfl) rfl
theorem q242 : (Jvm.Cond.lays "java/lang/StringBuilder" "java/lang/AbstractStringBuilder" "value" "[B") ∈ lw_all := lw_g (lw_at lw_m1 170 rfl) rfl
theorem q244 : (Jvm.Cond.lays "java/lang/StringBuilder" "java/lang/AbstractStringBuilder" "coder" "B") ∈ lw_all := lw_g (lw_at lw_m1 172 rfl) rfl
theorem q246 : (Jvm.Cond.lays "java/lang/StringBuilder" "java/lang/AbstractStringBuilder" "maybeLatin1" "Z") ∈ lw_all := lw_g (lw_at lw_m1 174 rfl) rfl
theorem q248 : (Jvm.Cond.lays "java/lang/StringBuilder" "java/lang/AbstractStringBuilder" "count" "I") ∈ lw_all := lw_g (lw_at lw_m1 176 rfl) rfl
theorem q250 : (Jvm.Cond.superclass "java/lang/StringBuilder" "java/lang/AbstractStringBuilder") ∈ lw_all := lw_g (lw_at lw_m1 178 rfl) rfl
theorem q517 : (Jvm.Cond.selects "java/lang/StringBuilder" ({ cls := "java/lang/Object", name := "getClass", desc := "()Ljava/lang/Class;" } : Jvm.MethodName) ({ cls := "java/lang/Object", name := "getClass", desc := "()Ljava/lang/Class;" } : Jvm.MethodName)) ∈ lw_all := lw_g (lw_at lw_m2 205 rfl) rfl
theorem q586 : (Jvm.Cond.instanceMethod ({ cls := "java/lang/StringBuilder", name := "length", desc := "()I" } : Jvm.MethodName)) ∈ lw_all := lw_g (lw_at lw_m3 34 rfl) rfl
theorem q587 : (Jvm.Cond.selects "java/lang/StringBuilder" ({ cls := "java/lang/StringBuilder", name := "length", desc := "()I" } : Jvm.MethodName) ({ cls := "java/lang/StringBuilder", name := "length", desc := "()I" } : Jvm.MethodName)) ∈ lw_all := lw_g (lw_at lw_m3 35 rfl) rfl
theorem q588 : (Jvm.Cond.code ({ cls := "java/lang/StringBuilder", name := "length", desc := "()I" } : Jvm.MethodName) prog_48_method_93_code (1 : Nat) (Option.some Jvm.ClassFile.FieldType.int)) ∈ lw_all := lw_g (lw_at lw_m3 36 rfl) rfl
theorem q589 : (Jvm.Cond.methodLink "java/lang/StringBuilder" (343 : Nat) ({ cls := "java/lang/AbstractStringBuilder", name := "length", desc := "()I" } : Jvm.MethodName)) ∈ lw_all := lw_g (lw_at lw_m3 37 rfl) rfl
theorem q611 : (Jvm.Cond.instanceMethod ({ cls := "java/lang/StringBuilder", name := "append", desc := "(C)Ljava/lang/StringBuilder;" } : Jvm.MethodName)) ∈ lw_all := lw_g (lw_at lw_m3 59 rfl) rfl
theorem q612 : (Jvm.Cond.selects "java/lang/StringBuilder" ({ cls := "java/lang/StringBuilder", name := "append", desc := "(C)Ljava/lang/StringBuilder;" } : Jvm.MethodName) ({ cls := "java/lang/StringBuilder", name := "append", desc := "(C)Ljava/lang/StringBuilder;" } : Jvm.MethodName)) ∈ lw_all := lw_g (lw_at lw_m3 60 rfl) rfl
theorem q613 : (Jvm.Cond.code ({ cls := "java/lang/StringBuilder", name := "append", desc := "(C)Ljava/lang/StringBuilder;" } : Jvm.MethodName) prog_48_method_14_code (2 : Nat) (Option.some (Jvm.ClassFile.FieldType.object "java/lang/StringBuilder"))) ∈ lw_all := lw_g (lw_at lw_m3 61 rfl) rfl
theorem q614 : (Jvm.Cond.methodLink "java/lang/StringBuilder" (50 : Nat) ({ cls := "java/lang/AbstractStringBuilder", name := "append", desc := "(C)Ljava/lang/AbstractStringBuilder;" } : Jvm.MethodName)) ∈ lw_all := lw_g (lw_at lw_m3 62 rfl) rfl
theorem q640 : (Jvm.Cond.selects "java/lang/StringBuilder" ({ cls := "java/lang/AbstractStringBuilder", name := "isLatin1", desc := "()Z" } : Jvm.MethodName) ({ cls := "java/lang/AbstractStringBuilder", name := "isLatin1", desc := "()Z" } : Jvm.MethodName)) ∈ lw_all := lw_g (lw_at lw_m3 88 rfl) rfl
theorem q720 : (Jvm.Cond.instanceMethod ({ cls := "java/lang/StringBuilder", name := "toString", desc := "()Ljava/lang/String;" } : Jvm.MethodName)) ∈ lw_all := lw_g (lw_at lw_m3 168 rfl) rfl
theorem q721 : (Jvm.Cond.selects "java/lang/StringBuilder" ({ cls := "java/lang/StringBuilder", name := "toString", desc := "()Ljava/lang/String;" } : Jvm.MethodName) ({ cls := "java/lang/StringBuilder", name := "toString", desc := "()Ljava/lang/String;" } : Jvm.MethodName)) ∈ lw_all := lw_g (lw_at lw_m3 169 rfl) rfl
theorem q722 : (Jvm.Cond.code ({ cls := "java/lang/StringBuilder", name := "toString", desc := "()Ljava/lang/String;" } : Jvm.MethodName) prog_48_method_42_code (1 : Nat) (Option.some (Jvm.ClassFile.FieldType.object "java/lang/String"))) ∈ lw_all := lw_g (lw_at lw_m3 170 rfl) rfl
theorem q723 : (Jvm.Cond.classLink "java/lang/StringBuilder" (18 : Nat) "java/lang/String") ∈ lw_all := lw_g (lw_at lw_m3 171 rfl) rfl
theorem q725 : (Jvm.Cond.methodLink "java/lang/StringBuilder" (137 : Nat) ({ cls := "java/lang/String", name := "<init>", desc := "(Ljava/lang/StringBuilder;)V" } : Jvm.MethodName)) ∈ lw_all := lw_g (lw_at lw_m3 173 rfl) rfl
theorem q735 : (Jvm.Cond.selects "java/lang/StringBuilder" ({ cls := "java/lang/AbstractStringBuilder", name := "getValue", desc := "()[B" } : Jvm.MethodName) ({ cls := "java/lang/AbstractStringBuilder", name := "getValue", desc := "()[B" } : Jvm.MethodName)) ∈ lw_all := lw_g (lw_at lw_m3 183 rfl) rfl
theorem q752 : (Jvm.Cond.instanceMethod ({ cls := "java/lang/StringBuilder", name := "append", desc := "(I)Ljava/lang/StringBuilder;" } : Jvm.MethodName)) ∈ lw_all := lw_g (lw_at lw_m3 200 rfl) rfl
theorem q753 : (Jvm.Cond.selects "java/lang/StringBuilder" ({ cls := "java/lang/StringBuilder", name := "append", desc := "(I)Ljava/lang/StringBuilder;" } : Jvm.MethodName) ({ cls := "java/lang/StringBuilder", name := "append", desc := "(I)Ljava/lang/StringBuilder;" } : Jvm.MethodName)) ∈ lw_all := lw_g (lw_at lw_m3 201 rfl) rfl
theorem q754 : (Jvm.Cond.code ({ cls := "java/lang/StringBuilder", name := "append", desc := "(I)Ljava/lang/StringBuilder;" } : Jvm.MethodName) prog_48_method_15_code (2 : Nat) (Option.some (Jvm.ClassFile.FieldType.object "java/lang/StringBuilder"))) ∈ lw_all := lw_g (lw_at lw_m3 202 rfl) rfl
theorem q755 : (Jvm.Cond.methodLink "java/lang/StringBuilder" (53 : Nat) ({ cls := "java/lang/AbstractStringBuilder", name := "append", desc := "(I)Ljava/lang/AbstractStringBuilder;" } : Jvm.MethodName)) ∈ lw_all := lw_g (lw_at lw_m3 203 rfl) rfl
theorem q787 : (Jvm.Cond.instanceMethod ({ cls := "java/lang/StringBuilder", name := "append", desc := "(Ljava/lang/String;)Ljava/lang/StringBuilder;" } : Jvm.MethodName)) ∈ lw_all := lw_g (lw_at lw_m3 235 rfl) rfl
theorem q788 : (Jvm.Cond.selects "java/lang/StringBuilder" ({ cls := "java/lang/StringBuilder", name := "append", desc := "(Ljava/lang/String;)Ljava/lang/StringBuilder;" } : Jvm.MethodName) ({ cls := "java/lang/StringBuilder", name := "append", desc := "(Ljava/lang/String;)Ljava/lang/StringBuilder;" } : Jvm.MethodName)) ∈ lw_all := lw_g (lw_at lw_m3 236 rfl) rfl
theorem q789 : (Jvm.Cond.code ({ cls := "java/lang/StringBuilder", name := "append", desc := "(Ljava/lang/String;)Ljava/lang/StringBuilder;" } : Jvm.MethodName) prog_48_method_7_code (2 : Nat) (Option.some (Jvm.ClassFile.FieldType.object "java/lang/StringBuilder"))) ∈ lw_all := lw_g (lw_at lw_m3 237 rfl) rfl
theorem q790 : (Jvm.Cond.methodLink "java/lang/StringBuilder" (29 : Nat) ({ cls := "java/lang/AbstractStringBuilder", name := "append", desc := "(Ljava/lang/String;)Ljava/lang/AbstractStringBuilder;" } : Jvm.MethodName)) ∈ lw_all := lw_g (lw_at lw_m3 238 rfl) rfl
theorem q875 : (Jvm.Cond.instanceMethod ({ cls := "java/lang/StringBuilder", name := "setLength", desc := "(I)V" } : Jvm.MethodName)) ∈ lw_all := lw_g (lw_at lw_m4 83 rfl) rfl
theorem q876 : (Jvm.Cond.selects "java/lang/StringBuilder" ({ cls := "java/lang/StringBuilder", name := "setLength", desc := "(I)V" } : Jvm.MethodName) ({ cls := "java/lang/StringBuilder", name := "setLength", desc := "(I)V" } : Jvm.MethodName)) ∈ lw_all := lw_g (lw_at lw_m4 84 rfl) rfl
theorem q877 : (Jvm.Cond.code ({ cls := "java/lang/StringBuilder", name := "setLength", desc := "(I)V" } : Jvm.MethodName) prog_48_method_89_code (2 : Nat) (Option.none : Option Jvm.ClassFile.FieldType)) ∈ lw_all := lw_g (lw_at lw_m4 85 rfl) rfl
theorem q878 : (Jvm.Cond.methodLink "java/lang/StringBuilder" (333 : Nat) ({ cls := "java/lang/AbstractStringBuilder", name := "setLength", desc := "(I)V" } : Jvm.MethodName)) ∈ lw_all := lw_g (lw_at lw_m4 86 rfl) rfl
theorem q1911 : (Jvm.Cond.selects "java/lang/StringBuilder" ({ cls := "java/lang/Object", name := "hashCode", desc := "()I" } : Jvm.MethodName) ({ cls := "java/lang/Object", name := "hashCode", desc := "()I" } : Jvm.MethodName)) ∈ lw_all := lw_g (lw_at lw_m8 159 rfl) rfl
theorem q1956 : (Jvm.Cond.selects "java/lang/StringBuilder" ({ cls := "java/lang/Object", name := "equals", desc := "(Ljava/lang/Object;)Z" } : Jvm.MethodName) ({ cls := "java/lang/Object", name := "equals", desc := "(Ljava/lang/Object;)Z" } : Jvm.MethodName)) ∈ lw_all := lw_g (lw_at lw_m8 204 rfl) rfl
theorem q2186 : (Jvm.Cond.castable "java/lang/StringBuilder" "java/lang/Comparable") ∈ lw_tbl := lw_at lw_m9 194 rfl
theorem q2187 : (Jvm.Cond.selects "java/lang/StringBuilder" ({ cls := "java/lang/Comparable", name := "compareTo", desc := "(Ljava/lang/Object;)I" } : Jvm.MethodName) ({ cls := "java/lang/StringBuilder", name := "compareTo", desc := "(Ljava/lang/Object;)I" } : Jvm.MethodName)) ∈ lw_all := lw_g (lw_at lw_m9 195 rfl) rfl
theorem q2188 : (Jvm.Cond.unhidden "java/lang/StringBuilder" "compareTo" "(Ljava/lang/Object;)I") ∈ lw_tbl := lw_at lw_m9 196 rfl
theorem q2189 : (Jvm.Cond.instanceMethod ({ cls := "java/lang/StringBuilder", name := "compareTo", desc := "(Ljava/lang/Object;)I" } : Jvm.MethodName)) ∈ lw_all := lw_g (lw_at lw_m9 197 rfl) rfl
theorem q2190 : (Jvm.Cond.publicMethod ({ cls := "java/lang/StringBuilder", name := "compareTo", desc := "(Ljava/lang/Object;)I" } : Jvm.MethodName)) ∈ lw_tbl := lw_at lw_m9 198 rfl
theorem q2191 : (Jvm.Cond.code ({ cls := "java/lang/StringBuilder", name := "compareTo", desc := "(Ljava/lang/Object;)I" } : Jvm.MethodName) prog_48_method_97_code (2 : Nat) (Option.some Jvm.ClassFile.FieldType.int)) ∈ lw_all := lw_g (lw_at lw_m9 199 rfl) rfl
theorem q2192 : (Jvm.Cond.classLink "java/lang/StringBuilder" (24 : Nat) "java/lang/StringBuilder") ∈ lw_all := lw_g (lw_at lw_m9 200 rfl) rfl
theorem q2193 : (Jvm.Cond.methodLink "java/lang/StringBuilder" (346 : Nat) ({ cls := "java/lang/StringBuilder", name := "compareTo", desc := "(Ljava/lang/StringBuilder;)I" } : Jvm.MethodName)) ∈ lw_all := lw_g (lw_at lw_m9 201 rfl) rfl
theorem q2194 : (Jvm.Cond.instanceMethod ({ cls := "java/lang/StringBuilder", name := "compareTo", desc := "(Ljava/lang/StringBuilder;)I" } : Jvm.MethodName)) ∈ lw_all := lw_g (lw_at lw_m9 202 rfl) rfl
theorem q2195 : (Jvm.Cond.selects "java/lang/StringBuilder" ({ cls := "java/lang/StringBuilder", name := "compareTo", desc := "(Ljava/lang/StringBuilder;)I" } : Jvm.MethodName) ({ cls := "java/lang/StringBuilder", name := "compareTo", desc := "(Ljava/lang/StringBuilder;)I" } : Jvm.MethodName)) ∈ lw_all := lw_g (lw_at lw_m9 203 rfl) rfl
theorem q2196 : (Jvm.Cond.code ({ cls := "java/lang/StringBuilder", name := "compareTo", desc := "(Ljava/lang/StringBuilder;)I" } : Jvm.MethodName) prog_48_method_5_code (2 : Nat) (Option.some Jvm.ClassFile.FieldType.int)) ∈ lw_all := lw_g (lw_at lw_m9 204 rfl) rfl
theorem q2197 : (Jvm.Cond.methodLink "java/lang/StringBuilder" (13 : Nat) ({ cls := "java/lang/AbstractStringBuilder", name := "compareTo", desc := "(Ljava/lang/AbstractStringBuilder;)I" } : Jvm.MethodName)) ∈ lw_all := lw_g (lw_at lw_m9 205 rfl) rfl
theorem q3128 : (Jvm.Cond.selects "java/lang/StringBuilder" ({ cls := "java/lang/AbstractStringBuilder", name := "length", desc := "()I" } : Jvm.MethodName) ({ cls := "java/lang/StringBuilder", name := "length", desc := "()I" } : Jvm.MethodName)) ∈ lw_all := lw_g (lw_at lw_m13 176 rfl) rfl
theorem q3156 : (Jvm.Cond.castable "java/lang/StringBuilder" "java/lang/Object") ∈ lw_tbl := lw_at lw_m13 204 rfl
theorem in_J5 : ∀ w ∈ wsJ50, w ∈ lw_all := lw_in wsJ50 [242, 244, 246, 248] (by decide +kernel) (by decide +kernel)
/-! java/lang/String -/
set_option maxRecDepth 100000
def RJ6 : String := "java/lang/String"
def TJ6 : u_T := fun k => match k with
  | 0 => ("java/lang/String", "value", "[B", true)
  | 1 => ("java/lang/String", "coder", "B", true)
  | 2 => ("java/lang/String", "hash", "I", false)
  | _ => ("java/lang/String", "hashIsZero", "Z", false)
def tyJ6 : Nat → FieldType := fun k => match k with
  | 0 => .array .byte
  | 1 => .byte
  | 2 => .int
  | _ => .boolean
abbrev wsJ60 : List Cond := u_ws RJ6 TJ6 4
theorem nmJ6 : ∀ a, a < 4 → ∀ b, b < 4 → a ≠ b → (TJ6 a).2.1 ≠ (TJ6 b).2.1 := by decide +kernel
theorem tyJ6_ok : ∀ k, k < 4 → parseFieldDescriptor (TJ6 k).2.2.1 = some (tyJ6 k) := by decide +kernel
abbrev cJ6_checkBoundsOffCount : ByteArray := prog_47_method_157_code
def yJ6_checkBoundsOffCount : MethodName := ⟨RJ6, "checkBoundsOffCount", "(III)I"⟩
def dkwJ6_checkBoundsOffCount_0 : List UInt8 := [26, 27, 28, 178, 4, 29, 184, 4, 41, 172]
abbrev dktJ6_checkBoundsOffCount_0 : List UInt8 := dkwJ6_checkBoundsOffCount_0 ++ []
theorem dksJ6_checkBoundsOffCount_0 : cJ6_checkBoundsOffCount.data.toList.drop 0 = dktJ6_checkBoundsOffCount_0 := by decide +kernel
theorem dJ6_checkBoundsOffCount_0 : decode cJ6_checkBoundsOffCount 0 = .ok (.iload_n 0, 1) := dk_26 (dk_at dksJ6_checkBoundsOffCount_0 0 rfl rfl)
theorem dJ6_checkBoundsOffCount_1 : decode cJ6_checkBoundsOffCount 1 = .ok (.iload_n 1, 1) := dk_27 (dk_at dksJ6_checkBoundsOffCount_0 1 rfl rfl)
theorem dJ6_checkBoundsOffCount_2 : decode cJ6_checkBoundsOffCount 2 = .ok (.iload_n 2, 1) := dk_28 (dk_at dksJ6_checkBoundsOffCount_0 2 rfl rfl)
theorem dJ6_checkBoundsOffCount_3 : decode cJ6_checkBoundsOffCount 3 = .ok (.getstatic 1053, 3) := dk_178 4 29 (dk_at dksJ6_checkBoundsOffCount_0 3 rfl rfl)
theorem dJ6_checkBoundsOffCount_6 : decode cJ6_checkBoundsOffCount 6 = .ok (.invokestatic 1065, 3) := dk_184 4 41 (dk_at dksJ6_checkBoundsOffCount_0 6 rfl rfl)
theorem dJ6_checkBoundsOffCount_9 : decode cJ6_checkBoundsOffCount 9 = .ok (.ireturn, 1) := dk_172 (dk_at dksJ6_checkBoundsOffCount_0 9 rfl rfl)
abbrev cJ6_checkIndex : ByteArray := prog_47_method_155_code
def yJ6_checkIndex : MethodName := ⟨RJ6, "checkIndex", "(II)V"⟩
def dkwJ6_checkIndex_0 : List UInt8 := [26, 27, 178, 4, 29, 184, 4, 35, 87, 177]
abbrev dktJ6_checkIndex_0 : List UInt8 := dkwJ6_checkIndex_0 ++ []
theorem dksJ6_checkIndex_0 : cJ6_checkIndex.data.toList.drop 0 = dktJ6_checkIndex_0 := by decide +kernel
theorem dJ6_checkIndex_0 : decode cJ6_checkIndex 0 = .ok (.iload_n 0, 1) := dk_26 (dk_at dksJ6_checkIndex_0 0 rfl rfl)
theorem dJ6_checkIndex_1 : decode cJ6_checkIndex 1 = .ok (.iload_n 1, 1) := dk_27 (dk_at dksJ6_checkIndex_0 1 rfl rfl)
theorem dJ6_checkIndex_2 : decode cJ6_checkIndex 2 = .ok (.getstatic 1053, 3) := dk_178 4 29 (dk_at dksJ6_checkIndex_0 2 rfl rfl)
theorem dJ6_checkIndex_5 : decode cJ6_checkIndex 5 = .ok (.invokestatic 1059, 3) := dk_184 4 35 (dk_at dksJ6_checkIndex_0 5 rfl rfl)
theorem dJ6_checkIndex_8 : decode cJ6_checkIndex 8 = .ok (.pop, 1) := dk_87 (dk_at dksJ6_checkIndex_0 8 rfl rfl)
theorem dJ6_checkIndex_9 : decode cJ6_checkIndex 9 = .ok (.return_, 1) := dk_177 (dk_at dksJ6_checkIndex_0 9 rfl rfl)
abbrev cJ6_init : ByteArray := prog_47_method_53_code
def yJ6_init : MethodName := ⟨RJ6, "<init>", "(Ljava/lang/StringBuilder;)V"⟩
def dkwJ6_init_0 : List UInt8 := [42, 43, 1, 183, 1, 233, 177]
abbrev dktJ6_init_0 : List UInt8 := dkwJ6_init_0 ++ []
theorem dksJ6_init_0 : cJ6_init.data.toList.drop 0 = dktJ6_init_0 := by decide +kernel
theorem dJ6_init_0 : decode cJ6_init 0 = .ok (.aload_n 0, 1) := dk_42 (dk_at dksJ6_init_0 0 rfl rfl)
theorem dJ6_init_1 : decode cJ6_init 1 = .ok (.aload_n 1, 1) := dk_43 (dk_at dksJ6_init_0 1 rfl rfl)
theorem dJ6_init_2 : decode cJ6_init 2 = .ok (.aconst_null, 1) := dk_1 (dk_at dksJ6_init_0 2 rfl rfl)
theorem dJ6_init_3 : decode cJ6_init 3 = .ok (.invokespecial 489, 3) := dk_183 1 233 (dk_at dksJ6_init_0 3 rfl rfl)
theorem dJ6_init_6 : decode cJ6_init 6 = .ok (.return_, 1) := dk_177 (dk_at dksJ6_init_0 6 rfl rfl)
abbrev cJ6_init_2 : ByteArray := prog_47_method_150_code
def yJ6_init_2 : MethodName := ⟨RJ6, "<init>", "(Ljava/lang/AbstractStringBuilder;Ljava/lang/Void;)V"⟩
def dkwJ6_init_2_4 : List UInt8 := [181, 0, 9, 177]
abbrev dktJ6_init_2_4 : List UInt8 := dkwJ6_init_2_4 ++ []
def dkwJ6_init_2_3 : List UInt8 := [184, 0, 47, 181, 0, 15, 177, 42, 4, 181, 0, 15, 42, 45, 3, 21, 4, 4, 120, 184, 0, 54]
abbrev dktJ6_init_2_3 : List UInt8 := dkwJ6_init_2_3 ++ dktJ6_init_2_4
def dkwJ6_init_2_2 : List UInt8 := [180, 4, 24, 153, 0, 28, 42, 45, 3, 21, 4, 184, 4, 27, 181, 0, 9, 42, 42, 180, 0, 9, 21, 4]
abbrev dktJ6_init_2_2 : List UInt8 := dkwJ6_init_2_2 ++ dktJ6_init_2_3
def dkwJ6_init_2_1 : List UInt8 := [181, 0, 15, 42, 45, 3, 21, 4, 184, 0, 54, 181, 0, 9, 167, 0, 59, 178, 0, 38, 153, 0, 35, 43]
abbrev dktJ6_init_2_1 : List UInt8 := dkwJ6_init_2_1 ++ dktJ6_init_2_2
def dkwJ6_init_2_0 : List UInt8 := [42, 183, 0, 1, 43, 182, 2, 40, 78, 43, 182, 2, 37, 54, 4, 43, 182, 4, 23, 153, 0, 22, 42, 3]
abbrev dktJ6_init_2_0 : List UInt8 := dkwJ6_init_2_0 ++ dktJ6_init_2_1
theorem dksJ6_init_2_0 : cJ6_init_2.data.toList.drop 0 = dktJ6_init_2_0 := by decide +kernel
theorem dksJ6_init_2_1 : cJ6_init_2.data.toList.drop 24 = dktJ6_init_2_1 := dk_seg dksJ6_init_2_0 24 rfl rfl
theorem dksJ6_init_2_2 : cJ6_init_2.data.toList.drop 48 = dktJ6_init_2_2 := dk_seg dksJ6_init_2_1 24 rfl rfl
theorem dksJ6_init_2_3 : cJ6_init_2.data.toList.drop 72 = dktJ6_init_2_3 := dk_seg dksJ6_init_2_2 24 rfl rfl
theorem dksJ6_init_2_4 : cJ6_init_2.data.toList.drop 94 = dktJ6_init_2_4 := dk_seg dksJ6_init_2_3 22 rfl rfl
theorem dJ6_init_2_0 : decode cJ6_init_2 0 = .ok (.aload_n 0, 1) := dk_42 (dk_at dksJ6_init_2_0 0 rfl rfl)
theorem dJ6_init_2_1 : decode cJ6_init_2 1 = .ok (.invokespecial 1, 3) := dk_183 0 1 (dk_at dksJ6_init_2_0 1 rfl rfl)
theorem dJ6_init_2_4 : decode cJ6_init_2 4 = .ok (.aload_n 1, 1) := dk_43 (dk_at dksJ6_init_2_0 4 rfl rfl)
theorem dJ6_init_2_5 : decode cJ6_init_2 5 = .ok (.invokevirtual 552, 3) := dk_182 2 40 (dk_at dksJ6_init_2_0 5 rfl rfl)
theorem dJ6_init_2_8 : decode cJ6_init_2 8 = .ok (.astore_n 3, 1) := dk_78 (dk_at dksJ6_init_2_0 8 rfl rfl)
theorem dJ6_init_2_9 : decode cJ6_init_2 9 = .ok (.aload_n 1, 1) := dk_43 (dk_at dksJ6_init_2_0 9 rfl rfl)
theorem dJ6_init_2_10 : decode cJ6_init_2 10 = .ok (.invokevirtual 549, 3) := dk_182 2 37 (dk_at dksJ6_init_2_0 10 rfl rfl)
theorem dJ6_init_2_13 : decode cJ6_init_2 13 = .ok (.istore 4, 2) := dk_54 4 (dk_at dksJ6_init_2_0 13 rfl rfl)
theorem dJ6_init_2_15 : decode cJ6_init_2 15 = .ok (.aload_n 1, 1) := dk_43 (dk_at dksJ6_init_2_0 15 rfl rfl)
theorem dJ6_init_2_16 : decode cJ6_init_2 16 = .ok (.invokevirtual 1047, 3) := dk_182 4 23 (dk_at dksJ6_init_2_0 16 rfl rfl)
theorem dJ6_init_2_19 : decode cJ6_init_2 19 = .ok (.ifCond .eq 22, 3) := dk_153 0 22 (dk_at dksJ6_init_2_0 19 rfl rfl)
theorem dJ6_init_2_22 : decode cJ6_init_2 22 = .ok (.aload_n 0, 1) := dk_42 (dk_at dksJ6_init_2_0 22 rfl rfl)
theorem dJ6_init_2_23 : decode cJ6_init_2 23 = .ok (.iconst 0, 1) := dk_3 (dk_at dksJ6_init_2_0 23 rfl rfl)
theorem dJ6_init_2_24 : decode cJ6_init_2 24 = .ok (.putfield 15, 3) := dk_181 0 15 (dk_at dksJ6_init_2_1 0 rfl rfl)
theorem dJ6_init_2_27 : decode cJ6_init_2 27 = .ok (.aload_n 0, 1) := dk_42 (dk_at dksJ6_init_2_1 3 rfl rfl)
theorem dJ6_init_2_28 : decode cJ6_init_2 28 = .ok (.aload_n 3, 1) := dk_45 (dk_at dksJ6_init_2_1 4 rfl rfl)
theorem dJ6_init_2_29 : decode cJ6_init_2 29 = .ok (.iconst 0, 1) := dk_3 (dk_at dksJ6_init_2_1 5 rfl rfl)
theorem dJ6_init_2_30 : decode cJ6_init_2 30 = .ok (.iload 4, 2) := dk_21 4 (dk_at dksJ6_init_2_1 6 rfl rfl)
theorem dJ6_init_2_32 : decode cJ6_init_2 32 = .ok (.invokestatic 54, 3) := dk_184 0 54 (dk_at dksJ6_init_2_1 8 rfl rfl)
theorem dJ6_init_2_35 : decode cJ6_init_2 35 = .ok (.putfield 9, 3) := dk_181 0 9 (dk_at dksJ6_init_2_1 11 rfl rfl)
theorem dJ6_init_2_38 : decode cJ6_init_2 38 = .ok (.goto 59, 3) := dk_167 0 59 (dk_at dksJ6_init_2_1 14 rfl rfl)
theorem dJ6_init_2_41 : decode cJ6_init_2 41 = .ok (.getstatic 38, 3) := dk_178 0 38 (dk_at dksJ6_init_2_1 17 rfl rfl)
theorem dJ6_init_2_44 : decode cJ6_init_2 44 = .ok (.ifCond .eq 35, 3) := dk_153 0 35 (dk_at dksJ6_init_2_1 20 rfl rfl)
theorem dJ6_init_2_47 : decode cJ6_init_2 47 = .ok (.aload_n 1, 1) := dk_43 (dk_at dksJ6_init_2_1 23 rfl rfl)
theorem dJ6_init_2_48 : decode cJ6_init_2 48 = .ok (.getfield 1048, 3) := dk_180 4 24 (dk_at dksJ6_init_2_2 0 rfl rfl)
theorem dJ6_init_2_51 : decode cJ6_init_2 51 = .ok (.ifCond .eq 28, 3) := dk_153 0 28 (dk_at dksJ6_init_2_2 3 rfl rfl)
theorem dJ6_init_2_54 : decode cJ6_init_2 54 = .ok (.aload_n 0, 1) := dk_42 (dk_at dksJ6_init_2_2 6 rfl rfl)
theorem dJ6_init_2_55 : decode cJ6_init_2 55 = .ok (.aload_n 3, 1) := dk_45 (dk_at dksJ6_init_2_2 7 rfl rfl)
theorem dJ6_init_2_56 : decode cJ6_init_2 56 = .ok (.iconst 0, 1) := dk_3 (dk_at dksJ6_init_2_2 8 rfl rfl)
theorem dJ6_init_2_57 : decode cJ6_init_2 57 = .ok (.iload 4, 2) := dk_21 4 (dk_at dksJ6_init_2_2 9 rfl rfl)
theorem dJ6_init_2_59 : decode cJ6_init_2 59 = .ok (.invokestatic 1051, 3) := dk_184 4 27 (dk_at dksJ6_init_2_2 11 rfl rfl)
theorem dJ6_init_2_62 : decode cJ6_init_2 62 = .ok (.putfield 9, 3) := dk_181 0 9 (dk_at dksJ6_init_2_2 14 rfl rfl)
theorem dJ6_init_2_65 : decode cJ6_init_2 65 = .ok (.aload_n 0, 1) := dk_42 (dk_at dksJ6_init_2_2 17 rfl rfl)
theorem dJ6_init_2_66 : decode cJ6_init_2 66 = .ok (.aload_n 0, 1) := dk_42 (dk_at dksJ6_init_2_2 18 rfl rfl)
theorem dJ6_init_2_67 : decode cJ6_init_2 67 = .ok (.getfield 9, 3) := dk_180 0 9 (dk_at dksJ6_init_2_2 19 rfl rfl)
theorem dJ6_init_2_70 : decode cJ6_init_2 70 = .ok (.iload 4, 2) := dk_21 4 (dk_at dksJ6_init_2_2 22 rfl rfl)
theorem dJ6_init_2_72 : decode cJ6_init_2 72 = .ok (.invokestatic 47, 3) := dk_184 0 47 (dk_at dksJ6_init_2_3 0 rfl rfl)
theorem dJ6_init_2_75 : decode cJ6_init_2 75 = .ok (.putfield 15, 3) := dk_181 0 15 (dk_at dksJ6_init_2_3 3 rfl rfl)
theorem dJ6_init_2_78 : decode cJ6_init_2 78 = .ok (.return_, 1) := dk_177 (dk_at dksJ6_init_2_3 6 rfl rfl)
theorem dJ6_init_2_79 : decode cJ6_init_2 79 = .ok (.aload_n 0, 1) := dk_42 (dk_at dksJ6_init_2_3 7 rfl rfl)
theorem dJ6_init_2_80 : decode cJ6_init_2 80 = .ok (.iconst 1, 1) := dk_4 (dk_at dksJ6_init_2_3 8 rfl rfl)
theorem dJ6_init_2_81 : decode cJ6_init_2 81 = .ok (.putfield 15, 3) := dk_181 0 15 (dk_at dksJ6_init_2_3 9 rfl rfl)
theorem dJ6_init_2_84 : decode cJ6_init_2 84 = .ok (.aload_n 0, 1) := dk_42 (dk_at dksJ6_init_2_3 12 rfl rfl)
theorem dJ6_init_2_85 : decode cJ6_init_2 85 = .ok (.aload_n 3, 1) := dk_45 (dk_at dksJ6_init_2_3 13 rfl rfl)
theorem dJ6_init_2_86 : decode cJ6_init_2 86 = .ok (.iconst 0, 1) := dk_3 (dk_at dksJ6_init_2_3 14 rfl rfl)
theorem dJ6_init_2_87 : decode cJ6_init_2 87 = .ok (.iload 4, 2) := dk_21 4 (dk_at dksJ6_init_2_3 15 rfl rfl)
theorem dJ6_init_2_89 : decode cJ6_init_2 89 = .ok (.iconst 1, 1) := dk_4 (dk_at dksJ6_init_2_3 17 rfl rfl)
theorem dJ6_init_2_90 : decode cJ6_init_2 90 = .ok (.ishl, 1) := dk_120 (dk_at dksJ6_init_2_3 18 rfl rfl)
theorem dJ6_init_2_91 : decode cJ6_init_2 91 = .ok (.invokestatic 54, 3) := dk_184 0 54 (dk_at dksJ6_init_2_3 19 rfl rfl)
theorem dJ6_init_2_94 : decode cJ6_init_2 94 = .ok (.putfield 9, 3) := dk_181 0 9 (dk_at dksJ6_init_2_4 0 rfl rfl)
theorem dJ6_init_2_97 : decode cJ6_init_2 97 = .ok (.return_, 1) := dk_177 (dk_at dksJ6_init_2_4 3 rfl rfl)
abbrev cJ6_checkBoundsBeginEnd : ByteArray := prog_47_method_158_code
def yJ6_checkBoundsBeginEnd : MethodName := ⟨RJ6, "checkBoundsBeginEnd", "(III)V"⟩
def dkwJ6_checkBoundsBeginEnd_0 : List UInt8 := [26, 27, 28, 178, 4, 29, 184, 4, 38, 87, 177]
abbrev dktJ6_checkBoundsBeginEnd_0 : List UInt8 := dkwJ6_checkBoundsBeginEnd_0 ++ []
theorem dksJ6_checkBoundsBeginEnd_0 : cJ6_checkBoundsBeginEnd.data.toList.drop 0 = dktJ6_checkBoundsBeginEnd_0 := by decide +kernel
theorem dJ6_checkBoundsBeginEnd_0 : decode cJ6_checkBoundsBeginEnd 0 = .ok (.iload_n 0, 1) := dk_26 (dk_at dksJ6_checkBoundsBeginEnd_0 0 rfl rfl)
theorem dJ6_checkBoundsBeginEnd_1 : decode cJ6_checkBoundsBeginEnd 1 = .ok (.iload_n 1, 1) := dk_27 (dk_at dksJ6_checkBoundsBeginEnd_0 1 rfl rfl)
theorem dJ6_checkBoundsBeginEnd_2 : decode cJ6_checkBoundsBeginEnd 2 = .ok (.iload_n 2, 1) := dk_28 (dk_at dksJ6_checkBoundsBeginEnd_0 2 rfl rfl)
theorem dJ6_checkBoundsBeginEnd_3 : decode cJ6_checkBoundsBeginEnd 3 = .ok (.getstatic 1053, 3) := dk_178 4 29 (dk_at dksJ6_checkBoundsBeginEnd_0 3 rfl rfl)
theorem dJ6_checkBoundsBeginEnd_6 : decode cJ6_checkBoundsBeginEnd 6 = .ok (.invokestatic 1062, 3) := dk_184 4 38 (dk_at dksJ6_checkBoundsBeginEnd_0 6 rfl rfl)
theorem dJ6_checkBoundsBeginEnd_9 : decode cJ6_checkBoundsBeginEnd 9 = .ok (.pop, 1) := dk_87 (dk_at dksJ6_checkBoundsBeginEnd_0 9 rfl rfl)
theorem dJ6_checkBoundsBeginEnd_10 : decode cJ6_checkBoundsBeginEnd 10 = .ok (.return_, 1) := dk_177 (dk_at dksJ6_checkBoundsBeginEnd_0 10 rfl rfl)
abbrev cJ6_length : ByteArray := prog_47_method_54_code
def yJ6_length : MethodName := ⟨RJ6, "length", "()I"⟩
def dkwJ6_length_0 : List UInt8 := [42, 180, 0, 9, 190, 42, 182, 1, 79, 122, 172]
abbrev dktJ6_length_0 : List UInt8 := dkwJ6_length_0 ++ []
theorem dksJ6_length_0 : cJ6_length.data.toList.drop 0 = dktJ6_length_0 := by decide +kernel
theorem dJ6_length_0 : decode cJ6_length 0 = .ok (.aload_n 0, 1) := dk_42 (dk_at dksJ6_length_0 0 rfl rfl)
theorem dJ6_length_1 : decode cJ6_length 1 = .ok (.getfield 9, 3) := dk_180 0 9 (dk_at dksJ6_length_0 1 rfl rfl)
theorem dJ6_length_4 : decode cJ6_length 4 = .ok (.arraylength, 1) := dk_190 (dk_at dksJ6_length_0 4 rfl rfl)
theorem dJ6_length_5 : decode cJ6_length 5 = .ok (.aload_n 0, 1) := dk_42 (dk_at dksJ6_length_0 5 rfl rfl)
theorem dJ6_length_6 : decode cJ6_length 6 = .ok (.invokevirtual 335, 3) := dk_182 1 79 (dk_at dksJ6_length_0 6 rfl rfl)
theorem dJ6_length_9 : decode cJ6_length 9 = .ok (.ishr, 1) := dk_122 (dk_at dksJ6_length_0 9 rfl rfl)
theorem dJ6_length_10 : decode cJ6_length 10 = .ok (.ireturn, 1) := dk_172 (dk_at dksJ6_length_0 10 rfl rfl)
abbrev cJ6_coder : ByteArray := prog_47_method_152_code
def yJ6_coder : MethodName := ⟨RJ6, "coder", "()B"⟩
def dkwJ6_coder_0 : List UInt8 := [178, 0, 38, 153, 0, 10, 42, 180, 0, 15, 167, 0, 4, 4, 172]
abbrev dktJ6_coder_0 : List UInt8 := dkwJ6_coder_0 ++ []
theorem dksJ6_coder_0 : cJ6_coder.data.toList.drop 0 = dktJ6_coder_0 := by decide +kernel
theorem dJ6_coder_0 : decode cJ6_coder 0 = .ok (.getstatic 38, 3) := dk_178 0 38 (dk_at dksJ6_coder_0 0 rfl rfl)
theorem dJ6_coder_3 : decode cJ6_coder 3 = .ok (.ifCond .eq 10, 3) := dk_153 0 10 (dk_at dksJ6_coder_0 3 rfl rfl)
theorem dJ6_coder_6 : decode cJ6_coder 6 = .ok (.aload_n 0, 1) := dk_42 (dk_at dksJ6_coder_0 6 rfl rfl)
theorem dJ6_coder_7 : decode cJ6_coder 7 = .ok (.getfield 15, 3) := dk_180 0 15 (dk_at dksJ6_coder_0 7 rfl rfl)
theorem dJ6_coder_10 : decode cJ6_coder 10 = .ok (.goto 4, 3) := dk_167 0 4 (dk_at dksJ6_coder_0 10 rfl rfl)
theorem dJ6_coder_13 : decode cJ6_coder 13 = .ok (.iconst 1, 1) := dk_4 (dk_at dksJ6_coder_0 13 rfl rfl)
theorem dJ6_coder_14 : decode cJ6_coder 14 = .ok (.ireturn, 1) := dk_172 (dk_at dksJ6_coder_0 14 rfl rfl)
abbrev cJ6_getBytes : ByteArray := prog_47_method_147_code
def yJ6_getBytes : MethodName := ⟨RJ6, "getBytes", "([BIB)V"⟩
def dkwJ6_getBytes_1 : List UInt8 := [184, 0, 212, 167, 0, 18, 42, 180, 0, 9, 3, 43, 28, 42, 180, 0, 9, 190, 184, 0, 106, 177]
abbrev dktJ6_getBytes_1 : List UInt8 := dkwJ6_getBytes_1 ++ []
def dkwJ6_getBytes_0 : List UInt8 := [42, 182, 1, 79, 29, 160, 0, 23, 42, 180, 0, 9, 3, 43, 28, 29, 120, 42, 180, 0, 9, 190]
abbrev dktJ6_getBytes_0 : List UInt8 := dkwJ6_getBytes_0 ++ dktJ6_getBytes_1
theorem dksJ6_getBytes_0 : cJ6_getBytes.data.toList.drop 0 = dktJ6_getBytes_0 := by decide +kernel
theorem dksJ6_getBytes_1 : cJ6_getBytes.data.toList.drop 22 = dktJ6_getBytes_1 := dk_seg dksJ6_getBytes_0 22 rfl rfl
theorem dJ6_getBytes_0 : decode cJ6_getBytes 0 = .ok (.aload_n 0, 1) := dk_42 (dk_at dksJ6_getBytes_0 0 rfl rfl)
theorem dJ6_getBytes_1 : decode cJ6_getBytes 1 = .ok (.invokevirtual 335, 3) := dk_182 1 79 (dk_at dksJ6_getBytes_0 1 rfl rfl)
theorem dJ6_getBytes_4 : decode cJ6_getBytes 4 = .ok (.iload_n 3, 1) := dk_29 (dk_at dksJ6_getBytes_0 4 rfl rfl)
theorem dJ6_getBytes_5 : decode cJ6_getBytes 5 = .ok (.if_icmp .ne 23, 3) := dk_160 0 23 (dk_at dksJ6_getBytes_0 5 rfl rfl)
theorem dJ6_getBytes_8 : decode cJ6_getBytes 8 = .ok (.aload_n 0, 1) := dk_42 (dk_at dksJ6_getBytes_0 8 rfl rfl)
theorem dJ6_getBytes_9 : decode cJ6_getBytes 9 = .ok (.getfield 9, 3) := dk_180 0 9 (dk_at dksJ6_getBytes_0 9 rfl rfl)
theorem dJ6_getBytes_12 : decode cJ6_getBytes 12 = .ok (.iconst 0, 1) := dk_3 (dk_at dksJ6_getBytes_0 12 rfl rfl)
theorem dJ6_getBytes_13 : decode cJ6_getBytes 13 = .ok (.aload_n 1, 1) := dk_43 (dk_at dksJ6_getBytes_0 13 rfl rfl)
theorem dJ6_getBytes_14 : decode cJ6_getBytes 14 = .ok (.iload_n 2, 1) := dk_28 (dk_at dksJ6_getBytes_0 14 rfl rfl)
theorem dJ6_getBytes_15 : decode cJ6_getBytes 15 = .ok (.iload_n 3, 1) := dk_29 (dk_at dksJ6_getBytes_0 15 rfl rfl)
theorem dJ6_getBytes_16 : decode cJ6_getBytes 16 = .ok (.ishl, 1) := dk_120 (dk_at dksJ6_getBytes_0 16 rfl rfl)
theorem dJ6_getBytes_17 : decode cJ6_getBytes 17 = .ok (.aload_n 0, 1) := dk_42 (dk_at dksJ6_getBytes_0 17 rfl rfl)
theorem dJ6_getBytes_18 : decode cJ6_getBytes 18 = .ok (.getfield 9, 3) := dk_180 0 9 (dk_at dksJ6_getBytes_0 18 rfl rfl)
theorem dJ6_getBytes_21 : decode cJ6_getBytes 21 = .ok (.arraylength, 1) := dk_190 (dk_at dksJ6_getBytes_0 21 rfl rfl)
theorem dJ6_getBytes_22 : decode cJ6_getBytes 22 = .ok (.invokestatic 212, 3) := dk_184 0 212 (dk_at dksJ6_getBytes_1 0 rfl rfl)
theorem dJ6_getBytes_25 : decode cJ6_getBytes 25 = .ok (.goto 18, 3) := dk_167 0 18 (dk_at dksJ6_getBytes_1 3 rfl rfl)
theorem dJ6_getBytes_28 : decode cJ6_getBytes 28 = .ok (.aload_n 0, 1) := dk_42 (dk_at dksJ6_getBytes_1 6 rfl rfl)
theorem dJ6_getBytes_29 : decode cJ6_getBytes 29 = .ok (.getfield 9, 3) := dk_180 0 9 (dk_at dksJ6_getBytes_1 7 rfl rfl)
theorem dJ6_getBytes_32 : decode cJ6_getBytes 32 = .ok (.iconst 0, 1) := dk_3 (dk_at dksJ6_getBytes_1 10 rfl rfl)
theorem dJ6_getBytes_33 : decode cJ6_getBytes 33 = .ok (.aload_n 1, 1) := dk_43 (dk_at dksJ6_getBytes_1 11 rfl rfl)
theorem dJ6_getBytes_34 : decode cJ6_getBytes 34 = .ok (.iload_n 2, 1) := dk_28 (dk_at dksJ6_getBytes_1 12 rfl rfl)
theorem dJ6_getBytes_35 : decode cJ6_getBytes 35 = .ok (.aload_n 0, 1) := dk_42 (dk_at dksJ6_getBytes_1 13 rfl rfl)
theorem dJ6_getBytes_36 : decode cJ6_getBytes 36 = .ok (.getfield 9, 3) := dk_180 0 9 (dk_at dksJ6_getBytes_1 14 rfl rfl)
theorem dJ6_getBytes_39 : decode cJ6_getBytes 39 = .ok (.arraylength, 1) := dk_190 (dk_at dksJ6_getBytes_1 17 rfl rfl)
theorem dJ6_getBytes_40 : decode cJ6_getBytes 40 = .ok (.invokestatic 106, 3) := dk_184 0 106 (dk_at dksJ6_getBytes_1 18 rfl rfl)
theorem dJ6_getBytes_43 : decode cJ6_getBytes 43 = .ok (.return_, 1) := dk_177 (dk_at dksJ6_getBytes_1 21 rfl rfl)
abbrev cJ6_charAt : ByteArray := prog_47_method_56_code
def yJ6_charAt : MethodName := ⟨RJ6, "charAt", "(I)C"⟩
def dkwJ6_charAt_1 : List UInt8 := [172]
abbrev dktJ6_charAt_1 : List UInt8 := dkwJ6_charAt_1 ++ []
def dkwJ6_charAt_0 : List UInt8 := [42, 182, 1, 236, 153, 0, 12, 42, 180, 0, 9, 27, 184, 1, 239, 172, 42, 180, 0, 9, 27, 184, 1, 242]
abbrev dktJ6_charAt_0 : List UInt8 := dkwJ6_charAt_0 ++ dktJ6_charAt_1
theorem dksJ6_charAt_0 : cJ6_charAt.data.toList.drop 0 = dktJ6_charAt_0 := by decide +kernel
theorem dksJ6_charAt_1 : cJ6_charAt.data.toList.drop 24 = dktJ6_charAt_1 := dk_seg dksJ6_charAt_0 24 rfl rfl
theorem dJ6_charAt_0 : decode cJ6_charAt 0 = .ok (.aload_n 0, 1) := dk_42 (dk_at dksJ6_charAt_0 0 rfl rfl)
theorem dJ6_charAt_1 : decode cJ6_charAt 1 = .ok (.invokevirtual 492, 3) := dk_182 1 236 (dk_at dksJ6_charAt_0 1 rfl rfl)
theorem dJ6_charAt_4 : decode cJ6_charAt 4 = .ok (.ifCond .eq 12, 3) := dk_153 0 12 (dk_at dksJ6_charAt_0 4 rfl rfl)
theorem dJ6_charAt_7 : decode cJ6_charAt 7 = .ok (.aload_n 0, 1) := dk_42 (dk_at dksJ6_charAt_0 7 rfl rfl)
theorem dJ6_charAt_8 : decode cJ6_charAt 8 = .ok (.getfield 9, 3) := dk_180 0 9 (dk_at dksJ6_charAt_0 8 rfl rfl)
theorem dJ6_charAt_11 : decode cJ6_charAt 11 = .ok (.iload_n 1, 1) := dk_27 (dk_at dksJ6_charAt_0 11 rfl rfl)
theorem dJ6_charAt_12 : decode cJ6_charAt 12 = .ok (.invokestatic 495, 3) := dk_184 1 239 (dk_at dksJ6_charAt_0 12 rfl rfl)
theorem dJ6_charAt_15 : decode cJ6_charAt 15 = .ok (.ireturn, 1) := dk_172 (dk_at dksJ6_charAt_0 15 rfl rfl)
theorem dJ6_charAt_16 : decode cJ6_charAt 16 = .ok (.aload_n 0, 1) := dk_42 (dk_at dksJ6_charAt_0 16 rfl rfl)
theorem dJ6_charAt_17 : decode cJ6_charAt 17 = .ok (.getfield 9, 3) := dk_180 0 9 (dk_at dksJ6_charAt_0 17 rfl rfl)
theorem dJ6_charAt_20 : decode cJ6_charAt 20 = .ok (.iload_n 1, 1) := dk_27 (dk_at dksJ6_charAt_0 20 rfl rfl)
theorem dJ6_charAt_21 : decode cJ6_charAt 21 = .ok (.invokestatic 498, 3) := dk_184 1 242 (dk_at dksJ6_charAt_0 21 rfl rfl)
theorem dJ6_charAt_24 : decode cJ6_charAt 24 = .ok (.ireturn, 1) := dk_172 (dk_at dksJ6_charAt_1 0 rfl rfl)
abbrev cJ6_isLatin1 : ByteArray := prog_47_method_154_code
def yJ6_isLatin1 : MethodName := ⟨RJ6, "isLatin1", "()Z"⟩
def dkwJ6_isLatin1_0 : List UInt8 := [178, 0, 38, 153, 0, 14, 42, 180, 0, 15, 154, 0, 7, 4, 167, 0, 4, 3, 172]
abbrev dktJ6_isLatin1_0 : List UInt8 := dkwJ6_isLatin1_0 ++ []
theorem dksJ6_isLatin1_0 : cJ6_isLatin1.data.toList.drop 0 = dktJ6_isLatin1_0 := by decide +kernel
theorem dJ6_isLatin1_0 : decode cJ6_isLatin1 0 = .ok (.getstatic 38, 3) := dk_178 0 38 (dk_at dksJ6_isLatin1_0 0 rfl rfl)
theorem dJ6_isLatin1_3 : decode cJ6_isLatin1 3 = .ok (.ifCond .eq 14, 3) := dk_153 0 14 (dk_at dksJ6_isLatin1_0 3 rfl rfl)
theorem dJ6_isLatin1_6 : decode cJ6_isLatin1 6 = .ok (.aload_n 0, 1) := dk_42 (dk_at dksJ6_isLatin1_0 6 rfl rfl)
theorem dJ6_isLatin1_7 : decode cJ6_isLatin1 7 = .ok (.getfield 15, 3) := dk_180 0 15 (dk_at dksJ6_isLatin1_0 7 rfl rfl)
theorem dJ6_isLatin1_10 : decode cJ6_isLatin1 10 = .ok (.ifCond .ne 7, 3) := dk_154 0 7 (dk_at dksJ6_isLatin1_0 10 rfl rfl)
theorem dJ6_isLatin1_13 : decode cJ6_isLatin1 13 = .ok (.iconst 1, 1) := dk_4 (dk_at dksJ6_isLatin1_0 13 rfl rfl)
theorem dJ6_isLatin1_14 : decode cJ6_isLatin1 14 = .ok (.goto 4, 3) := dk_167 0 4 (dk_at dksJ6_isLatin1_0 14 rfl rfl)
theorem dJ6_isLatin1_17 : decode cJ6_isLatin1 17 = .ok (.iconst 0, 1) := dk_3 (dk_at dksJ6_isLatin1_0 17 rfl rfl)
theorem dJ6_isLatin1_18 : decode cJ6_isLatin1 18 = .ok (.ireturn, 1) := dk_172 (dk_at dksJ6_isLatin1_0 18 rfl rfl)
abbrev cJ6_substring : ByteArray := prog_47_method_92_code
def yJ6_substring : MethodName := ⟨RJ6, "substring", "(II)Ljava/lang/String;"⟩
def dkwJ6_substring_2 : List UInt8 := [180, 0, 9, 27, 21, 4, 184, 2, 177, 176]
abbrev dktJ6_substring_2 : List UInt8 := dkwJ6_substring_2 ++ []
def dkwJ6_substring_1 : List UInt8 := [100, 54, 4, 42, 182, 1, 236, 153, 0, 16, 42, 180, 0, 9, 27, 21, 4, 184, 2, 173, 167, 0, 13, 42]
abbrev dktJ6_substring_1 : List UInt8 := dkwJ6_substring_1 ++ dktJ6_substring_2
def dkwJ6_substring_0 : List UInt8 := [42, 182, 1, 249, 62, 27, 28, 29, 184, 2, 9, 27, 154, 0, 10, 28, 29, 160, 0, 5, 42, 176, 28, 27]
abbrev dktJ6_substring_0 : List UInt8 := dkwJ6_substring_0 ++ dktJ6_substring_1
theorem dksJ6_substring_0 : cJ6_substring.data.toList.drop 0 = dktJ6_substring_0 := by decide +kernel
theorem dksJ6_substring_1 : cJ6_substring.data.toList.drop 24 = dktJ6_substring_1 := dk_seg dksJ6_substring_0 24 rfl rfl
theorem dksJ6_substring_2 : cJ6_substring.data.toList.drop 48 = dktJ6_substring_2 := dk_seg dksJ6_substring_1 24 rfl rfl
theorem dJ6_substring_0 : decode cJ6_substring 0 = .ok (.aload_n 0, 1) := dk_42 (dk_at dksJ6_substring_0 0 rfl rfl)
theorem dJ6_substring_1 : decode cJ6_substring 1 = .ok (.invokevirtual 505, 3) := dk_182 1 249 (dk_at dksJ6_substring_0 1 rfl rfl)
theorem dJ6_substring_4 : decode cJ6_substring 4 = .ok (.istore_n 3, 1) := dk_62 (dk_at dksJ6_substring_0 4 rfl rfl)
theorem dJ6_substring_5 : decode cJ6_substring 5 = .ok (.iload_n 1, 1) := dk_27 (dk_at dksJ6_substring_0 5 rfl rfl)
theorem dJ6_substring_6 : decode cJ6_substring 6 = .ok (.iload_n 2, 1) := dk_28 (dk_at dksJ6_substring_0 6 rfl rfl)
theorem dJ6_substring_7 : decode cJ6_substring 7 = .ok (.iload_n 3, 1) := dk_29 (dk_at dksJ6_substring_0 7 rfl rfl)
theorem dJ6_substring_8 : decode cJ6_substring 8 = .ok (.invokestatic 521, 3) := dk_184 2 9 (dk_at dksJ6_substring_0 8 rfl rfl)
theorem dJ6_substring_11 : decode cJ6_substring 11 = .ok (.iload_n 1, 1) := dk_27 (dk_at dksJ6_substring_0 11 rfl rfl)
theorem dJ6_substring_12 : decode cJ6_substring 12 = .ok (.ifCond .ne 10, 3) := dk_154 0 10 (dk_at dksJ6_substring_0 12 rfl rfl)
theorem dJ6_substring_15 : decode cJ6_substring 15 = .ok (.iload_n 2, 1) := dk_28 (dk_at dksJ6_substring_0 15 rfl rfl)
theorem dJ6_substring_16 : decode cJ6_substring 16 = .ok (.iload_n 3, 1) := dk_29 (dk_at dksJ6_substring_0 16 rfl rfl)
theorem dJ6_substring_17 : decode cJ6_substring 17 = .ok (.if_icmp .ne 5, 3) := dk_160 0 5 (dk_at dksJ6_substring_0 17 rfl rfl)
theorem dJ6_substring_20 : decode cJ6_substring 20 = .ok (.aload_n 0, 1) := dk_42 (dk_at dksJ6_substring_0 20 rfl rfl)
theorem dJ6_substring_21 : decode cJ6_substring 21 = .ok (.areturn, 1) := dk_176 (dk_at dksJ6_substring_0 21 rfl rfl)
theorem dJ6_substring_22 : decode cJ6_substring 22 = .ok (.iload_n 2, 1) := dk_28 (dk_at dksJ6_substring_0 22 rfl rfl)
theorem dJ6_substring_23 : decode cJ6_substring 23 = .ok (.iload_n 1, 1) := dk_27 (dk_at dksJ6_substring_0 23 rfl rfl)
theorem dJ6_substring_24 : decode cJ6_substring 24 = .ok (.isub, 1) := dk_100 (dk_at dksJ6_substring_1 0 rfl rfl)
theorem dJ6_substring_25 : decode cJ6_substring 25 = .ok (.istore 4, 2) := dk_54 4 (dk_at dksJ6_substring_1 1 rfl rfl)
theorem dJ6_substring_27 : decode cJ6_substring 27 = .ok (.aload_n 0, 1) := dk_42 (dk_at dksJ6_substring_1 3 rfl rfl)
theorem dJ6_substring_28 : decode cJ6_substring 28 = .ok (.invokevirtual 492, 3) := dk_182 1 236 (dk_at dksJ6_substring_1 4 rfl rfl)
theorem dJ6_substring_31 : decode cJ6_substring 31 = .ok (.ifCond .eq 16, 3) := dk_153 0 16 (dk_at dksJ6_substring_1 7 rfl rfl)
theorem dJ6_substring_34 : decode cJ6_substring 34 = .ok (.aload_n 0, 1) := dk_42 (dk_at dksJ6_substring_1 10 rfl rfl)
theorem dJ6_substring_35 : decode cJ6_substring 35 = .ok (.getfield 9, 3) := dk_180 0 9 (dk_at dksJ6_substring_1 11 rfl rfl)
theorem dJ6_substring_38 : decode cJ6_substring 38 = .ok (.iload_n 1, 1) := dk_27 (dk_at dksJ6_substring_1 14 rfl rfl)
theorem dJ6_substring_39 : decode cJ6_substring 39 = .ok (.iload 4, 2) := dk_21 4 (dk_at dksJ6_substring_1 15 rfl rfl)
theorem dJ6_substring_41 : decode cJ6_substring 41 = .ok (.invokestatic 685, 3) := dk_184 2 173 (dk_at dksJ6_substring_1 17 rfl rfl)
theorem dJ6_substring_44 : decode cJ6_substring 44 = .ok (.goto 13, 3) := dk_167 0 13 (dk_at dksJ6_substring_1 20 rfl rfl)
theorem dJ6_substring_47 : decode cJ6_substring 47 = .ok (.aload_n 0, 1) := dk_42 (dk_at dksJ6_substring_1 23 rfl rfl)
theorem dJ6_substring_48 : decode cJ6_substring 48 = .ok (.getfield 9, 3) := dk_180 0 9 (dk_at dksJ6_substring_2 0 rfl rfl)
theorem dJ6_substring_51 : decode cJ6_substring 51 = .ok (.iload_n 1, 1) := dk_27 (dk_at dksJ6_substring_2 3 rfl rfl)
theorem dJ6_substring_52 : decode cJ6_substring 52 = .ok (.iload 4, 2) := dk_21 4 (dk_at dksJ6_substring_2 4 rfl rfl)
theorem dJ6_substring_54 : decode cJ6_substring 54 = .ok (.invokestatic 689, 3) := dk_184 2 177 (dk_at dksJ6_substring_2 6 rfl rfl)
theorem dJ6_substring_57 : decode cJ6_substring 57 = .ok (.areturn, 1) := dk_176 (dk_at dksJ6_substring_2 9 rfl rfl)
abbrev cJ6_init_3 : ByteArray := prog_47_method_151_code
def yJ6_init_3 : MethodName := ⟨RJ6, "<init>", "([BB)V"⟩
def dkwJ6_init_3_0 : List UInt8 := [42, 183, 0, 1, 42, 43, 181, 0, 9, 42, 28, 181, 0, 15, 177]
abbrev dktJ6_init_3_0 : List UInt8 := dkwJ6_init_3_0 ++ []
theorem dksJ6_init_3_0 : cJ6_init_3.data.toList.drop 0 = dktJ6_init_3_0 := by decide +kernel
theorem dJ6_init_3_0 : decode cJ6_init_3 0 = .ok (.aload_n 0, 1) := dk_42 (dk_at dksJ6_init_3_0 0 rfl rfl)
theorem dJ6_init_3_1 : decode cJ6_init_3 1 = .ok (.invokespecial 1, 3) := dk_183 0 1 (dk_at dksJ6_init_3_0 1 rfl rfl)
theorem dJ6_init_3_4 : decode cJ6_init_3 4 = .ok (.aload_n 0, 1) := dk_42 (dk_at dksJ6_init_3_0 4 rfl rfl)
theorem dJ6_init_3_5 : decode cJ6_init_3 5 = .ok (.aload_n 1, 1) := dk_43 (dk_at dksJ6_init_3_0 5 rfl rfl)
theorem dJ6_init_3_6 : decode cJ6_init_3 6 = .ok (.putfield 9, 3) := dk_181 0 9 (dk_at dksJ6_init_3_0 6 rfl rfl)
theorem dJ6_init_3_9 : decode cJ6_init_3 9 = .ok (.aload_n 0, 1) := dk_42 (dk_at dksJ6_init_3_0 9 rfl rfl)
theorem dJ6_init_3_10 : decode cJ6_init_3 10 = .ok (.iload_n 2, 1) := dk_28 (dk_at dksJ6_init_3_0 10 rfl rfl)
theorem dJ6_init_3_11 : decode cJ6_init_3 11 = .ok (.putfield 15, 3) := dk_181 0 15 (dk_at dksJ6_init_3_0 11 rfl rfl)
theorem dJ6_init_3_14 : decode cJ6_init_3 14 = .ok (.return_, 1) := dk_177 (dk_at dksJ6_init_3_0 14 rfl rfl)
abbrev cJ6_equals : ByteArray := prog_47_method_66_code
def yJ6_equals : MethodName := ⟨RJ6, "equals", "(Ljava/lang/Object;)Z"⟩
def dkwJ6_equals_2 : List UInt8 := [184, 2, 29, 153, 0, 7, 4, 167, 0, 4, 3, 172]
abbrev dktJ6_equals_2 : List UInt8 := dkwJ6_equals_2 ++ []
def dkwJ6_equals_1 : List UInt8 := [153, 0, 14, 42, 180, 0, 15, 44, 180, 0, 15, 160, 0, 21, 42, 180, 0, 9, 44, 180, 0, 9]
abbrev dktJ6_equals_1 : List UInt8 := dkwJ6_equals_1 ++ dktJ6_equals_2
def dkwJ6_equals_0 : List UInt8 := [42, 43, 166, 0, 5, 4, 172, 43, 193, 0, 10, 153, 0, 43, 43, 192, 0, 10, 77, 178, 0, 38]
abbrev dktJ6_equals_0 : List UInt8 := dkwJ6_equals_0 ++ dktJ6_equals_1
theorem dksJ6_equals_0 : cJ6_equals.data.toList.drop 0 = dktJ6_equals_0 := by decide +kernel
theorem dksJ6_equals_1 : cJ6_equals.data.toList.drop 22 = dktJ6_equals_1 := dk_seg dksJ6_equals_0 22 rfl rfl
theorem dksJ6_equals_2 : cJ6_equals.data.toList.drop 44 = dktJ6_equals_2 := dk_seg dksJ6_equals_1 22 rfl rfl
theorem dJ6_equals_0 : decode cJ6_equals 0 = .ok (.aload_n 0, 1) := dk_42 (dk_at dksJ6_equals_0 0 rfl rfl)
theorem dJ6_equals_1 : decode cJ6_equals 1 = .ok (.aload_n 1, 1) := dk_43 (dk_at dksJ6_equals_0 1 rfl rfl)
theorem dJ6_equals_2 : decode cJ6_equals 2 = .ok (.if_acmp .ne 5, 3) := dk_166 0 5 (dk_at dksJ6_equals_0 2 rfl rfl)
theorem dJ6_equals_5 : decode cJ6_equals 5 = .ok (.iconst 1, 1) := dk_4 (dk_at dksJ6_equals_0 5 rfl rfl)
theorem dJ6_equals_6 : decode cJ6_equals 6 = .ok (.ireturn, 1) := dk_172 (dk_at dksJ6_equals_0 6 rfl rfl)
theorem dJ6_equals_7 : decode cJ6_equals 7 = .ok (.aload_n 1, 1) := dk_43 (dk_at dksJ6_equals_0 7 rfl rfl)
theorem dJ6_equals_8 : decode cJ6_equals 8 = .ok (.instanceof 10, 3) := dk_193 0 10 (dk_at dksJ6_equals_0 8 rfl rfl)
theorem dJ6_equals_11 : decode cJ6_equals 11 = .ok (.ifCond .eq 43, 3) := dk_153 0 43 (dk_at dksJ6_equals_0 11 rfl rfl)
theorem dJ6_equals_14 : decode cJ6_equals 14 = .ok (.aload_n 1, 1) := dk_43 (dk_at dksJ6_equals_0 14 rfl rfl)
theorem dJ6_equals_15 : decode cJ6_equals 15 = .ok (.checkcast 10, 3) := dk_192 0 10 (dk_at dksJ6_equals_0 15 rfl rfl)
theorem dJ6_equals_18 : decode cJ6_equals 18 = .ok (.astore_n 2, 1) := dk_77 (dk_at dksJ6_equals_0 18 rfl rfl)
theorem dJ6_equals_19 : decode cJ6_equals 19 = .ok (.getstatic 38, 3) := dk_178 0 38 (dk_at dksJ6_equals_0 19 rfl rfl)
theorem dJ6_equals_22 : decode cJ6_equals 22 = .ok (.ifCond .eq 14, 3) := dk_153 0 14 (dk_at dksJ6_equals_1 0 rfl rfl)
theorem dJ6_equals_25 : decode cJ6_equals 25 = .ok (.aload_n 0, 1) := dk_42 (dk_at dksJ6_equals_1 3 rfl rfl)
theorem dJ6_equals_26 : decode cJ6_equals 26 = .ok (.getfield 15, 3) := dk_180 0 15 (dk_at dksJ6_equals_1 4 rfl rfl)
theorem dJ6_equals_29 : decode cJ6_equals 29 = .ok (.aload_n 2, 1) := dk_44 (dk_at dksJ6_equals_1 7 rfl rfl)
theorem dJ6_equals_30 : decode cJ6_equals 30 = .ok (.getfield 15, 3) := dk_180 0 15 (dk_at dksJ6_equals_1 8 rfl rfl)
theorem dJ6_equals_33 : decode cJ6_equals 33 = .ok (.if_icmp .ne 21, 3) := dk_160 0 21 (dk_at dksJ6_equals_1 11 rfl rfl)
theorem dJ6_equals_36 : decode cJ6_equals 36 = .ok (.aload_n 0, 1) := dk_42 (dk_at dksJ6_equals_1 14 rfl rfl)
theorem dJ6_equals_37 : decode cJ6_equals 37 = .ok (.getfield 9, 3) := dk_180 0 9 (dk_at dksJ6_equals_1 15 rfl rfl)
theorem dJ6_equals_40 : decode cJ6_equals 40 = .ok (.aload_n 2, 1) := dk_44 (dk_at dksJ6_equals_1 18 rfl rfl)
theorem dJ6_equals_41 : decode cJ6_equals 41 = .ok (.getfield 9, 3) := dk_180 0 9 (dk_at dksJ6_equals_1 19 rfl rfl)
theorem dJ6_equals_44 : decode cJ6_equals 44 = .ok (.invokestatic 541, 3) := dk_184 2 29 (dk_at dksJ6_equals_2 0 rfl rfl)
theorem dJ6_equals_47 : decode cJ6_equals 47 = .ok (.ifCond .eq 7, 3) := dk_153 0 7 (dk_at dksJ6_equals_2 3 rfl rfl)
theorem dJ6_equals_50 : decode cJ6_equals 50 = .ok (.iconst 1, 1) := dk_4 (dk_at dksJ6_equals_2 6 rfl rfl)
theorem dJ6_equals_51 : decode cJ6_equals 51 = .ok (.goto 4, 3) := dk_167 0 4 (dk_at dksJ6_equals_2 7 rfl rfl)
theorem dJ6_equals_54 : decode cJ6_equals 54 = .ok (.iconst 0, 1) := dk_3 (dk_at dksJ6_equals_2 10 rfl rfl)
theorem dJ6_equals_55 : decode cJ6_equals 55 = .ok (.ireturn, 1) := dk_172 (dk_at dksJ6_equals_2 11 rfl rfl)
abbrev cJ6_hashCode : ByteArray := prog_47_method_78_code
def yJ6_hashCode : MethodName := ⟨RJ6, "hashCode", "()I"⟩
def dkwJ6_hashCode_2 : List UInt8 := [181, 0, 23, 167, 0, 8, 42, 27, 181, 0, 19, 27, 172]
abbrev dktJ6_hashCode_2 : List UInt8 := dkwJ6_hashCode_2 ++ []
def dkwJ6_hashCode_1 : List UInt8 := [180, 0, 9, 184, 2, 116, 167, 0, 10, 42, 180, 0, 9, 184, 2, 120, 60, 27, 154, 0, 11, 42, 4]
abbrev dktJ6_hashCode_1 : List UInt8 := dkwJ6_hashCode_1 ++ dktJ6_hashCode_2
def dkwJ6_hashCode_0 : List UInt8 := [42, 180, 0, 19, 60, 27, 154, 0, 52, 42, 180, 0, 23, 154, 0, 45, 42, 182, 1, 236, 153, 0, 13, 42]
abbrev dktJ6_hashCode_0 : List UInt8 := dkwJ6_hashCode_0 ++ dktJ6_hashCode_1
theorem dksJ6_hashCode_0 : cJ6_hashCode.data.toList.drop 0 = dktJ6_hashCode_0 := by decide +kernel
theorem dksJ6_hashCode_1 : cJ6_hashCode.data.toList.drop 24 = dktJ6_hashCode_1 := dk_seg dksJ6_hashCode_0 24 rfl rfl
theorem dksJ6_hashCode_2 : cJ6_hashCode.data.toList.drop 47 = dktJ6_hashCode_2 := dk_seg dksJ6_hashCode_1 23 rfl rfl
theorem dJ6_hashCode_0 : decode cJ6_hashCode 0 = .ok (.aload_n 0, 1) := dk_42 (dk_at dksJ6_hashCode_0 0 rfl rfl)
theorem dJ6_hashCode_1 : decode cJ6_hashCode 1 = .ok (.getfield 19, 3) := dk_180 0 19 (dk_at dksJ6_hashCode_0 1 rfl rfl)
theorem dJ6_hashCode_4 : decode cJ6_hashCode 4 = .ok (.istore_n 1, 1) := dk_60 (dk_at dksJ6_hashCode_0 4 rfl rfl)
theorem dJ6_hashCode_5 : decode cJ6_hashCode 5 = .ok (.iload_n 1, 1) := dk_27 (dk_at dksJ6_hashCode_0 5 rfl rfl)
theorem dJ6_hashCode_6 : decode cJ6_hashCode 6 = .ok (.ifCond .ne 52, 3) := dk_154 0 52 (dk_at dksJ6_hashCode_0 6 rfl rfl)
theorem dJ6_hashCode_9 : decode cJ6_hashCode 9 = .ok (.aload_n 0, 1) := dk_42 (dk_at dksJ6_hashCode_0 9 rfl rfl)
theorem dJ6_hashCode_10 : decode cJ6_hashCode 10 = .ok (.getfield 23, 3) := dk_180 0 23 (dk_at dksJ6_hashCode_0 10 rfl rfl)
theorem dJ6_hashCode_13 : decode cJ6_hashCode 13 = .ok (.ifCond .ne 45, 3) := dk_154 0 45 (dk_at dksJ6_hashCode_0 13 rfl rfl)
theorem dJ6_hashCode_16 : decode cJ6_hashCode 16 = .ok (.aload_n 0, 1) := dk_42 (dk_at dksJ6_hashCode_0 16 rfl rfl)
theorem dJ6_hashCode_17 : decode cJ6_hashCode 17 = .ok (.invokevirtual 492, 3) := dk_182 1 236 (dk_at dksJ6_hashCode_0 17 rfl rfl)
theorem dJ6_hashCode_20 : decode cJ6_hashCode 20 = .ok (.ifCond .eq 13, 3) := dk_153 0 13 (dk_at dksJ6_hashCode_0 20 rfl rfl)
theorem dJ6_hashCode_23 : decode cJ6_hashCode 23 = .ok (.aload_n 0, 1) := dk_42 (dk_at dksJ6_hashCode_0 23 rfl rfl)
theorem dJ6_hashCode_24 : decode cJ6_hashCode 24 = .ok (.getfield 9, 3) := dk_180 0 9 (dk_at dksJ6_hashCode_1 0 rfl rfl)
theorem dJ6_hashCode_27 : decode cJ6_hashCode 27 = .ok (.invokestatic 628, 3) := dk_184 2 116 (dk_at dksJ6_hashCode_1 3 rfl rfl)
theorem dJ6_hashCode_30 : decode cJ6_hashCode 30 = .ok (.goto 10, 3) := dk_167 0 10 (dk_at dksJ6_hashCode_1 6 rfl rfl)
theorem dJ6_hashCode_33 : decode cJ6_hashCode 33 = .ok (.aload_n 0, 1) := dk_42 (dk_at dksJ6_hashCode_1 9 rfl rfl)
theorem dJ6_hashCode_34 : decode cJ6_hashCode 34 = .ok (.getfield 9, 3) := dk_180 0 9 (dk_at dksJ6_hashCode_1 10 rfl rfl)
theorem dJ6_hashCode_37 : decode cJ6_hashCode 37 = .ok (.invokestatic 632, 3) := dk_184 2 120 (dk_at dksJ6_hashCode_1 13 rfl rfl)
theorem dJ6_hashCode_40 : decode cJ6_hashCode 40 = .ok (.istore_n 1, 1) := dk_60 (dk_at dksJ6_hashCode_1 16 rfl rfl)
theorem dJ6_hashCode_41 : decode cJ6_hashCode 41 = .ok (.iload_n 1, 1) := dk_27 (dk_at dksJ6_hashCode_1 17 rfl rfl)
theorem dJ6_hashCode_42 : decode cJ6_hashCode 42 = .ok (.ifCond .ne 11, 3) := dk_154 0 11 (dk_at dksJ6_hashCode_1 18 rfl rfl)
theorem dJ6_hashCode_45 : decode cJ6_hashCode 45 = .ok (.aload_n 0, 1) := dk_42 (dk_at dksJ6_hashCode_1 21 rfl rfl)
theorem dJ6_hashCode_46 : decode cJ6_hashCode 46 = .ok (.iconst 1, 1) := dk_4 (dk_at dksJ6_hashCode_1 22 rfl rfl)
theorem dJ6_hashCode_47 : decode cJ6_hashCode 47 = .ok (.putfield 23, 3) := dk_181 0 23 (dk_at dksJ6_hashCode_2 0 rfl rfl)
theorem dJ6_hashCode_50 : decode cJ6_hashCode 50 = .ok (.goto 8, 3) := dk_167 0 8 (dk_at dksJ6_hashCode_2 3 rfl rfl)
theorem dJ6_hashCode_53 : decode cJ6_hashCode 53 = .ok (.aload_n 0, 1) := dk_42 (dk_at dksJ6_hashCode_2 6 rfl rfl)
theorem dJ6_hashCode_54 : decode cJ6_hashCode 54 = .ok (.iload_n 1, 1) := dk_27 (dk_at dksJ6_hashCode_2 7 rfl rfl)
theorem dJ6_hashCode_55 : decode cJ6_hashCode 55 = .ok (.putfield 19, 3) := dk_181 0 19 (dk_at dksJ6_hashCode_2 8 rfl rfl)
theorem dJ6_hashCode_58 : decode cJ6_hashCode 58 = .ok (.iload_n 1, 1) := dk_27 (dk_at dksJ6_hashCode_2 11 rfl rfl)
theorem dJ6_hashCode_59 : decode cJ6_hashCode 59 = .ok (.ireturn, 1) := dk_172 (dk_at dksJ6_hashCode_2 12 rfl rfl)
abbrev cJ6_compareTo : ByteArray := prog_47_method_162_code
def yJ6_compareTo : MethodName := ⟨RJ6, "compareTo", "(Ljava/lang/Object;)I"⟩
def dkwJ6_compareTo_0 : List UInt8 := [42, 43, 192, 0, 10, 182, 4, 60, 172]
abbrev dktJ6_compareTo_0 : List UInt8 := dkwJ6_compareTo_0 ++ []
theorem dksJ6_compareTo_0 : cJ6_compareTo.data.toList.drop 0 = dktJ6_compareTo_0 := by decide +kernel
theorem dJ6_compareTo_0 : decode cJ6_compareTo 0 = .ok (.aload_n 0, 1) := dk_42 (dk_at dksJ6_compareTo_0 0 rfl rfl)
theorem dJ6_compareTo_1 : decode cJ6_compareTo 1 = .ok (.aload_n 1, 1) := dk_43 (dk_at dksJ6_compareTo_0 1 rfl rfl)
theorem dJ6_compareTo_2 : decode cJ6_compareTo 2 = .ok (.checkcast 10, 3) := dk_192 0 10 (dk_at dksJ6_compareTo_0 2 rfl rfl)
theorem dJ6_compareTo_5 : decode cJ6_compareTo 5 = .ok (.invokevirtual 1084, 3) := dk_182 4 60 (dk_at dksJ6_compareTo_0 5 rfl rfl)
theorem dJ6_compareTo_8 : decode cJ6_compareTo 8 = .ok (.ireturn, 1) := dk_172 (dk_at dksJ6_compareTo_0 8 rfl rfl)
abbrev cJ6_compareTo_2 : ByteArray := prog_47_method_71_code
def yJ6_compareTo_2 : MethodName := ⟨RJ6, "compareTo", "(Ljava/lang/String;)I"⟩
def dkwJ6_compareTo_2_2 : List UInt8 := [154, 0, 11, 44, 45, 184, 2, 79, 167, 0, 8, 44, 45, 184, 2, 82, 172]
abbrev dktJ6_compareTo_2_2 : List UInt8 := dkwJ6_compareTo_2_2 ++ []
def dkwJ6_compareTo_2_1 : List UInt8 := [160, 0, 22, 21, 4, 154, 0, 11, 44, 45, 184, 2, 74, 167, 0, 8, 44, 45, 184, 2, 78, 172, 21, 4]
abbrev dktJ6_compareTo_2_1 : List UInt8 := dkwJ6_compareTo_2_1 ++ dktJ6_compareTo_2_2
def dkwJ6_compareTo_2_0 : List UInt8 := [42, 180, 0, 9, 77, 43, 180, 0, 9, 78, 42, 182, 1, 79, 54, 4, 21, 4, 43, 182, 1, 79]
abbrev dktJ6_compareTo_2_0 : List UInt8 := dkwJ6_compareTo_2_0 ++ dktJ6_compareTo_2_1
theorem dksJ6_compareTo_2_0 : cJ6_compareTo_2.data.toList.drop 0 = dktJ6_compareTo_2_0 := by decide +kernel
theorem dksJ6_compareTo_2_1 : cJ6_compareTo_2.data.toList.drop 22 = dktJ6_compareTo_2_1 := dk_seg dksJ6_compareTo_2_0 22 rfl rfl
theorem dksJ6_compareTo_2_2 : cJ6_compareTo_2.data.toList.drop 46 = dktJ6_compareTo_2_2 := dk_seg dksJ6_compareTo_2_1 24 rfl rfl
theorem dJ6_compareTo_2_0 : decode cJ6_compareTo_2 0 = .ok (.aload_n 0, 1) := dk_42 (dk_at dksJ6_compareTo_2_0 0 rfl rfl)
theorem dJ6_compareTo_2_1 : decode cJ6_compareTo_2 1 = .ok (.getfield 9, 3) := dk_180 0 9 (dk_at dksJ6_compareTo_2_0 1 rfl rfl)
theorem dJ6_compareTo_2_4 : decode cJ6_compareTo_2 4 = .ok (.astore_n 2, 1) := dk_77 (dk_at dksJ6_compareTo_2_0 4 rfl rfl)
theorem dJ6_compareTo_2_5 : decode cJ6_compareTo_2 5 = .ok (.aload_n 1, 1) := dk_43 (dk_at dksJ6_compareTo_2_0 5 rfl rfl)
theorem dJ6_compareTo_2_6 : decode cJ6_compareTo_2 6 = .ok (.getfield 9, 3) := dk_180 0 9 (dk_at dksJ6_compareTo_2_0 6 rfl rfl)
theorem dJ6_compareTo_2_9 : decode cJ6_compareTo_2 9 = .ok (.astore_n 3, 1) := dk_78 (dk_at dksJ6_compareTo_2_0 9 rfl rfl)
theorem dJ6_compareTo_2_10 : decode cJ6_compareTo_2 10 = .ok (.aload_n 0, 1) := dk_42 (dk_at dksJ6_compareTo_2_0 10 rfl rfl)
theorem dJ6_compareTo_2_11 : decode cJ6_compareTo_2 11 = .ok (.invokevirtual 335, 3) := dk_182 1 79 (dk_at dksJ6_compareTo_2_0 11 rfl rfl)
theorem dJ6_compareTo_2_14 : decode cJ6_compareTo_2 14 = .ok (.istore 4, 2) := dk_54 4 (dk_at dksJ6_compareTo_2_0 14 rfl rfl)
theorem dJ6_compareTo_2_16 : decode cJ6_compareTo_2 16 = .ok (.iload 4, 2) := dk_21 4 (dk_at dksJ6_compareTo_2_0 16 rfl rfl)
theorem dJ6_compareTo_2_18 : decode cJ6_compareTo_2 18 = .ok (.aload_n 1, 1) := dk_43 (dk_at dksJ6_compareTo_2_0 18 rfl rfl)
theorem dJ6_compareTo_2_19 : decode cJ6_compareTo_2 19 = .ok (.invokevirtual 335, 3) := dk_182 1 79 (dk_at dksJ6_compareTo_2_0 19 rfl rfl)
theorem dJ6_compareTo_2_22 : decode cJ6_compareTo_2 22 = .ok (.if_icmp .ne 22, 3) := dk_160 0 22 (dk_at dksJ6_compareTo_2_1 0 rfl rfl)
theorem dJ6_compareTo_2_25 : decode cJ6_compareTo_2 25 = .ok (.iload 4, 2) := dk_21 4 (dk_at dksJ6_compareTo_2_1 3 rfl rfl)
theorem dJ6_compareTo_2_27 : decode cJ6_compareTo_2 27 = .ok (.ifCond .ne 11, 3) := dk_154 0 11 (dk_at dksJ6_compareTo_2_1 5 rfl rfl)
theorem dJ6_compareTo_2_30 : decode cJ6_compareTo_2 30 = .ok (.aload_n 2, 1) := dk_44 (dk_at dksJ6_compareTo_2_1 8 rfl rfl)
theorem dJ6_compareTo_2_31 : decode cJ6_compareTo_2 31 = .ok (.aload_n 3, 1) := dk_45 (dk_at dksJ6_compareTo_2_1 9 rfl rfl)
theorem dJ6_compareTo_2_32 : decode cJ6_compareTo_2 32 = .ok (.invokestatic 586, 3) := dk_184 2 74 (dk_at dksJ6_compareTo_2_1 10 rfl rfl)
theorem dJ6_compareTo_2_35 : decode cJ6_compareTo_2 35 = .ok (.goto 8, 3) := dk_167 0 8 (dk_at dksJ6_compareTo_2_1 13 rfl rfl)
theorem dJ6_compareTo_2_38 : decode cJ6_compareTo_2 38 = .ok (.aload_n 2, 1) := dk_44 (dk_at dksJ6_compareTo_2_1 16 rfl rfl)
theorem dJ6_compareTo_2_39 : decode cJ6_compareTo_2 39 = .ok (.aload_n 3, 1) := dk_45 (dk_at dksJ6_compareTo_2_1 17 rfl rfl)
theorem dJ6_compareTo_2_40 : decode cJ6_compareTo_2 40 = .ok (.invokestatic 590, 3) := dk_184 2 78 (dk_at dksJ6_compareTo_2_1 18 rfl rfl)
theorem dJ6_compareTo_2_43 : decode cJ6_compareTo_2 43 = .ok (.ireturn, 1) := dk_172 (dk_at dksJ6_compareTo_2_1 21 rfl rfl)
theorem dJ6_compareTo_2_44 : decode cJ6_compareTo_2 44 = .ok (.iload 4, 2) := dk_21 4 (dk_at dksJ6_compareTo_2_1 22 rfl rfl)
theorem dJ6_compareTo_2_46 : decode cJ6_compareTo_2 46 = .ok (.ifCond .ne 11, 3) := dk_154 0 11 (dk_at dksJ6_compareTo_2_2 0 rfl rfl)
theorem dJ6_compareTo_2_49 : decode cJ6_compareTo_2 49 = .ok (.aload_n 2, 1) := dk_44 (dk_at dksJ6_compareTo_2_2 3 rfl rfl)
theorem dJ6_compareTo_2_50 : decode cJ6_compareTo_2 50 = .ok (.aload_n 3, 1) := dk_45 (dk_at dksJ6_compareTo_2_2 4 rfl rfl)
theorem dJ6_compareTo_2_51 : decode cJ6_compareTo_2 51 = .ok (.invokestatic 591, 3) := dk_184 2 79 (dk_at dksJ6_compareTo_2_2 5 rfl rfl)
theorem dJ6_compareTo_2_54 : decode cJ6_compareTo_2 54 = .ok (.goto 8, 3) := dk_167 0 8 (dk_at dksJ6_compareTo_2_2 8 rfl rfl)
theorem dJ6_compareTo_2_57 : decode cJ6_compareTo_2 57 = .ok (.aload_n 2, 1) := dk_44 (dk_at dksJ6_compareTo_2_2 11 rfl rfl)
theorem dJ6_compareTo_2_58 : decode cJ6_compareTo_2 58 = .ok (.aload_n 3, 1) := dk_45 (dk_at dksJ6_compareTo_2_2 12 rfl rfl)
theorem dJ6_compareTo_2_59 : decode cJ6_compareTo_2 59 = .ok (.invokestatic 594, 3) := dk_184 2 82 (dk_at dksJ6_compareTo_2_2 13 rfl rfl)
theorem dJ6_compareTo_2_62 : decode cJ6_compareTo_2 62 = .ok (.ireturn, 1) := dk_172 (dk_at dksJ6_compareTo_2_2 16 rfl rfl)
abbrev cJ6_checkOffset : ByteArray := prog_47_method_156_code
def yJ6_checkOffset : MethodName := ⟨RJ6, "checkOffset", "(II)V"⟩
def dkwJ6_checkOffset_0 : List UInt8 := [26, 27, 27, 178, 4, 29, 184, 4, 38, 87, 177]
abbrev dktJ6_checkOffset_0 : List UInt8 := dkwJ6_checkOffset_0 ++ []
theorem dksJ6_checkOffset_0 : cJ6_checkOffset.data.toList.drop 0 = dktJ6_checkOffset_0 := by decide +kernel
theorem dJ6_checkOffset_0 : decode cJ6_checkOffset 0 = .ok (.iload_n 0, 1) := dk_26 (dk_at dksJ6_checkOffset_0 0 rfl rfl)
theorem dJ6_checkOffset_1 : decode cJ6_checkOffset 1 = .ok (.iload_n 1, 1) := dk_27 (dk_at dksJ6_checkOffset_0 1 rfl rfl)
theorem dJ6_checkOffset_2 : decode cJ6_checkOffset 2 = .ok (.iload_n 1, 1) := dk_27 (dk_at dksJ6_checkOffset_0 2 rfl rfl)
theorem dJ6_checkOffset_3 : decode cJ6_checkOffset 3 = .ok (.getstatic 1053, 3) := dk_178 4 29 (dk_at dksJ6_checkOffset_0 3 rfl rfl)
theorem dJ6_checkOffset_6 : decode cJ6_checkOffset 6 = .ok (.invokestatic 1062, 3) := dk_184 4 38 (dk_at dksJ6_checkOffset_0 6 rfl rfl)
theorem dJ6_checkOffset_9 : decode cJ6_checkOffset 9 = .ok (.pop, 1) := dk_87 (dk_at dksJ6_checkOffset_0 9 rfl rfl)
theorem dJ6_checkOffset_10 : decode cJ6_checkOffset 10 = .ok (.return_, 1) := dk_177 (dk_at dksJ6_checkOffset_0 10 rfl rfl)
theorem q81 : (Jvm.Cond.initialized "java/lang/String") ∈ lw_all := lw_g (lw_at lw_m1 9 rfl) rfl
theorem q229 : (Jvm.Cond.laysStatic "java/lang/String" "COMPACT_STRINGS" "Z") ∈ lw_tbl := lw_at lw_m1 157 rfl
theorem q240 : (Jvm.Cond.fieldLink "java/lang/String" (1048 : Nat) "java/lang/AbstractStringBuilder" "maybeLatin1" "Z") ∈ lw_all := lw_g (lw_at lw_m1 168 rfl) rfl
theorem q516 : (Jvm.Cond.selects "java/lang/String" ({ cls := "java/lang/Object", name := "getClass", desc := "()Ljava/lang/Class;" } : Jvm.MethodName) ({ cls := "java/lang/Object", name := "getClass", desc := "()Ljava/lang/Class;" } : Jvm.MethodName)) ∈ lw_all := lw_g (lw_at lw_m2 204 rfl) rfl
theorem q662 : (Jvm.Cond.static ({ cls := "java/lang/String", name := "checkBoundsOffCount", desc := "(III)I" } : Jvm.MethodName)) ∈ lw_all := lw_g (lw_at lw_m3 110 rfl) rfl
theorem q663 : (Jvm.Cond.code ({ cls := "java/lang/String", name := "checkBoundsOffCount", desc := "(III)I" } : Jvm.MethodName) prog_47_method_157_code (3 : Nat) (Option.some Jvm.ClassFile.FieldType.int)) ∈ lw_all := lw_g (lw_at lw_m3 111 rfl) rfl
theorem q664 : (Jvm.Cond.fieldLink "java/lang/String" (1053 : Nat) "jdk/internal/util/Preconditions" "SIOOBE_FORMATTER" "Ljava/util/function/BiFunction;") ∈ lw_all := lw_g (lw_at lw_m3 112 rfl) rfl
theorem q666 : (Jvm.Cond.methodLink "java/lang/String" (1065 : Nat) ({ cls := "jdk/internal/util/Preconditions", name := "checkFromIndexSize", desc := "(IIILjava/util/function/BiFunction;)I" } : Jvm.MethodName)) ∈ lw_all := lw_g (lw_at lw_m3 114 rfl) rfl
theorem q685 : (Jvm.Cond.static ({ cls := "java/lang/String", name := "checkIndex", desc := "(II)V" } : Jvm.MethodName)) ∈ lw_all := lw_g (lw_at lw_m3 133 rfl) rfl
theorem q686 : (Jvm.Cond.code ({ cls := "java/lang/String", name := "checkIndex", desc := "(II)V" } : Jvm.MethodName) prog_47_method_155_code (2 : Nat) (Option.none : Option Jvm.ClassFile.FieldType)) ∈ lw_all := lw_g (lw_at lw_m3 134 rfl) rfl
theorem q687 : (Jvm.Cond.methodLink "java/lang/String" (1059 : Nat) ({ cls := "jdk/internal/util/Preconditions", name := "checkIndex", desc := "(IILjava/util/function/BiFunction;)I" } : Jvm.MethodName)) ∈ lw_all := lw_g (lw_at lw_m3 135 rfl) rfl
theorem q724 : (Jvm.Cond.instantiable "java/lang/String" (4 : Nat)) ∈ lw_all := lw_g (lw_at lw_m3 172 rfl) rfl
theorem q726 : (Jvm.Cond.instanceMethod ({ cls := "java/lang/String", name := "<init>", desc := "(Ljava/lang/StringBuilder;)V" } : Jvm.MethodName)) ∈ lw_all := lw_g (lw_at lw_m3 174 rfl) rfl
theorem q727 : (Jvm.Cond.code ({ cls := "java/lang/String", name := "<init>", desc := "(Ljava/lang/StringBuilder;)V" } : Jvm.MethodName) prog_47_method_53_code (2 : Nat) (Option.none : Option Jvm.ClassFile.FieldType)) ∈ lw_all := lw_g (lw_at lw_m3 175 rfl) rfl
theorem q728 : (Jvm.Cond.methodLink "java/lang/String" (489 : Nat) ({ cls := "java/lang/String", name := "<init>", desc := "(Ljava/lang/AbstractStringBuilder;Ljava/lang/Void;)V" } : Jvm.MethodName)) ∈ lw_all := lw_g (lw_at lw_m3 176 rfl) rfl
theorem q729 : (Jvm.Cond.instanceMethod ({ cls := "java/lang/String", name := "<init>", desc := "(Ljava/lang/AbstractStringBuilder;Ljava/lang/Void;)V" } : Jvm.MethodName)) ∈ lw_all := lw_g (lw_at lw_m3 177 rfl) rfl
theorem q730 : (Jvm.Cond.code ({ cls := "java/lang/String", name := "<init>", desc := "(Ljava/lang/AbstractStringBuilder;Ljava/lang/Void;)V" } : Jvm.MethodName) prog_47_method_150_code (5 : Nat) (Option.none : Option Jvm.ClassFile.FieldType)) ∈ lw_all := lw_g (lw_at lw_m3 178 rfl) rfl
theorem q731 : (Jvm.Cond.methodLink "java/lang/String" (1 : Nat) ({ cls := "java/lang/Object", name := "<init>", desc := "()V" } : Jvm.MethodName)) ∈ lw_all := lw_g (lw_at lw_m3 179 rfl) rfl
theorem q732 : (Jvm.Cond.methodLink "java/lang/String" (552 : Nat) ({ cls := "java/lang/AbstractStringBuilder", name := "getValue", desc := "()[B" } : Jvm.MethodName)) ∈ lw_all := lw_g (lw_at lw_m3 180 rfl) rfl
theorem q737 : (Jvm.Cond.methodLink "java/lang/String" (549 : Nat) ({ cls := "java/lang/AbstractStringBuilder", name := "length", desc := "()I" } : Jvm.MethodName)) ∈ lw_all := lw_g (lw_at lw_m3 185 rfl) rfl
theorem q738 : (Jvm.Cond.methodLink "java/lang/String" (1047 : Nat) ({ cls := "java/lang/AbstractStringBuilder", name := "isLatin1", desc := "()Z" } : Jvm.MethodName)) ∈ lw_all := lw_g (lw_at lw_m3 186 rfl) rfl
theorem q739 : (Jvm.Cond.methodLink "java/lang/String" (54 : Nat) ({ cls := "java/util/Arrays", name := "copyOfRange", desc := "([BII)[B" } : Jvm.MethodName)) ∈ lw_all := lw_g (lw_at lw_m3 187 rfl) rfl
theorem q775 : (Jvm.Cond.static ({ cls := "java/lang/String", name := "checkBoundsBeginEnd", desc := "(III)V" } : Jvm.MethodName)) ∈ lw_all := lw_g (lw_at lw_m3 223 rfl) rfl
theorem q776 : (Jvm.Cond.code ({ cls := "java/lang/String", name := "checkBoundsBeginEnd", desc := "(III)V" } : Jvm.MethodName) prog_47_method_158_code (3 : Nat) (Option.none : Option Jvm.ClassFile.FieldType)) ∈ lw_all := lw_g (lw_at lw_m3 224 rfl) rfl
theorem q777 : (Jvm.Cond.methodLink "java/lang/String" (1062 : Nat) ({ cls := "jdk/internal/util/Preconditions", name := "checkFromToIndex", desc := "(IIILjava/util/function/BiFunction;)I" } : Jvm.MethodName)) ∈ lw_all := lw_g (lw_at lw_m3 225 rfl) rfl
theorem q801 : (Jvm.Cond.instanceMethod ({ cls := "java/lang/String", name := "length", desc := "()I" } : Jvm.MethodName)) ∈ lw_all := lw_g (lw_at lw_m4 9 rfl) rfl
theorem q802 : (Jvm.Cond.selects "java/lang/String" ({ cls := "java/lang/String", name := "length", desc := "()I" } : Jvm.MethodName) ({ cls := "java/lang/String", name := "length", desc := "()I" } : Jvm.MethodName)) ∈ lw_all := lw_g (lw_at lw_m4 10 rfl) rfl
theorem q803 : (Jvm.Cond.code ({ cls := "java/lang/String", name := "length", desc := "()I" } : Jvm.MethodName) prog_47_method_54_code (1 : Nat) (Option.some Jvm.ClassFile.FieldType.int)) ∈ lw_all := lw_g (lw_at lw_m4 11 rfl) rfl
theorem q804 : (Jvm.Cond.methodLink "java/lang/String" (335 : Nat) ({ cls := "java/lang/String", name := "coder", desc := "()B" } : Jvm.MethodName)) ∈ lw_all := lw_g (lw_at lw_m4 12 rfl) rfl
theorem q805 : (Jvm.Cond.instanceMethod ({ cls := "java/lang/String", name := "coder", desc := "()B" } : Jvm.MethodName)) ∈ lw_all := lw_g (lw_at lw_m4 13 rfl) rfl
theorem q806 : (Jvm.Cond.selects "java/lang/String" ({ cls := "java/lang/String", name := "coder", desc := "()B" } : Jvm.MethodName) ({ cls := "java/lang/String", name := "coder", desc := "()B" } : Jvm.MethodName)) ∈ lw_all := lw_g (lw_at lw_m4 14 rfl) rfl
theorem q807 : (Jvm.Cond.code ({ cls := "java/lang/String", name := "coder", desc := "()B" } : Jvm.MethodName) prog_47_method_152_code (1 : Nat) (Option.some Jvm.ClassFile.FieldType.byte)) ∈ lw_all := lw_g (lw_at lw_m4 15 rfl) rfl
theorem q808 : (Jvm.Cond.fieldLink "java/lang/String" (38 : Nat) "java/lang/String" "COMPACT_STRINGS" "Z") ∈ lw_all := lw_g (lw_at lw_m4 16 rfl) rfl
theorem q819 : (Jvm.Cond.instanceMethod ({ cls := "java/lang/String", name := "getBytes", desc := "([BIB)V" } : Jvm.MethodName)) ∈ lw_all := lw_g (lw_at lw_m4 27 rfl) rfl
theorem q820 : (Jvm.Cond.selects "java/lang/String" ({ cls := "java/lang/String", name := "getBytes", desc := "([BIB)V" } : Jvm.MethodName) ({ cls := "java/lang/String", name := "getBytes", desc := "([BIB)V" } : Jvm.MethodName)) ∈ lw_all := lw_g (lw_at lw_m4 28 rfl) rfl
theorem q821 : (Jvm.Cond.code ({ cls := "java/lang/String", name := "getBytes", desc := "([BIB)V" } : Jvm.MethodName) prog_47_method_147_code (4 : Nat) (Option.none : Option Jvm.ClassFile.FieldType)) ∈ lw_all := lw_g (lw_at lw_m4 29 rfl) rfl
theorem q822 : (Jvm.Cond.methodLink "java/lang/String" (212 : Nat) ({ cls := "java/lang/System", name := "arraycopy", desc := "(Ljava/lang/Object;ILjava/lang/Object;II)V" } : Jvm.MethodName)) ∈ lw_all := lw_g (lw_at lw_m4 30 rfl) rfl
theorem q823 : (Jvm.Cond.methodLink "java/lang/String" (106 : Nat) ({ cls := "java/lang/StringLatin1", name := "inflate", desc := "([BI[BII)V" } : Jvm.MethodName)) ∈ lw_all := lw_g (lw_at lw_m4 31 rfl) rfl
theorem q837 : (Jvm.Cond.methodLink "java/lang/String" (1051 : Nat) ({ cls := "java/lang/StringUTF16", name := "compress", desc := "([BII)[B" } : Jvm.MethodName)) ∈ lw_all := lw_g (lw_at lw_m4 45 rfl) rfl
theorem q847 : (Jvm.Cond.methodLink "java/lang/String" (47 : Nat) ({ cls := "java/lang/StringUTF16", name := "coderFromArrayLen", desc := "([BI)B" } : Jvm.MethodName)) ∈ lw_all := lw_g (lw_at lw_m4 55 rfl) rfl
theorem q850 : (Jvm.Cond.fieldLink "java/lang/String" (9 : Nat) "java/lang/String" "value" "[B") ∈ lw_all := lw_g (lw_at lw_m4 58 rfl) rfl
theorem q851 : (Jvm.Cond.fieldLink "java/lang/String" (15 : Nat) "java/lang/String" "coder" "B") ∈ lw_all := lw_g (lw_at lw_m4 59 rfl) rfl
theorem q852 : (Jvm.Cond.fieldLink "java/lang/String" (19 : Nat) "java/lang/String" "hash" "I") ∈ lw_all := lw_g (lw_at lw_m4 60 rfl) rfl
theorem q853 : (Jvm.Cond.fieldLink "java/lang/String" (23 : Nat) "java/lang/String" "hashIsZero" "Z") ∈ lw_all := lw_g (lw_at lw_m4 61 rfl) rfl
theorem q854 : (Jvm.Cond.laysFinal "java/lang/String" "java/lang/String" "value" "[B") ∈ lw_all := lw_g (lw_at lw_m4 62 rfl) rfl
theorem q855 : (Jvm.Cond.soleField "java/lang/String" "value") ∈ lw_all := lw_g (lw_at lw_m4 63 rfl) rfl
theorem q856 : (Jvm.Cond.laysFinal "java/lang/String" "java/lang/String" "coder" "B") ∈ lw_all := lw_g (lw_at lw_m4 64 rfl) rfl
theorem q857 : (Jvm.Cond.soleField "java/lang/String" "coder") ∈ lw_all := lw_g (lw_at lw_m4 65 rfl) rfl
theorem q858 : (Jvm.Cond.lays "java/lang/String" "java/lang/String" "hash" "I") ∈ lw_all := lw_g (lw_at lw_m4 66 rfl) rfl
theorem q859 : (Jvm.Cond.soleField "java/lang/String" "hash") ∈ lw_all := lw_g (lw_at lw_m4 67 rfl) rfl
theorem q860 : (Jvm.Cond.lays "java/lang/String" "java/lang/String" "hashIsZero" "Z") ∈ lw_all := lw_g (lw_at lw_m4 68 rfl) rfl
theorem q861 : (Jvm.Cond.soleField "java/lang/String" "hashIsZero") ∈ lw_all := lw_g (lw_at lw_m4 69 rfl) rfl
theorem q862 : (Jvm.Cond.superclass "java/lang/String" "java/lang/Object") ∈ lw_all := lw_g (lw_at lw_m4 70 rfl) rfl
theorem q982 : (Jvm.Cond.instanceMethod ({ cls := "java/lang/String", name := "charAt", desc := "(I)C" } : Jvm.MethodName)) ∈ lw_all := lw_g (lw_at lw_m4 190 rfl) rfl
theorem q983 : (Jvm.Cond.selects "java/lang/String" ({ cls := "java/lang/String", name := "charAt", desc := "(I)C" } : Jvm.MethodName) ({ cls := "java/lang/String", name := "charAt", desc := "(I)C" } : Jvm.MethodName)) ∈ lw_all := lw_g (lw_at lw_m4 191 rfl) rfl
theorem q984 : (Jvm.Cond.code ({ cls := "java/lang/String", name := "charAt", desc := "(I)C" } : Jvm.MethodName) prog_47_method_56_code (2 : Nat) (Option.some Jvm.ClassFile.FieldType.char)) ∈ lw_all := lw_g (lw_at lw_m4 192 rfl) rfl
theorem q985 : (Jvm.Cond.methodLink "java/lang/String" (492 : Nat) ({ cls := "java/lang/String", name := "isLatin1", desc := "()Z" } : Jvm.MethodName)) ∈ lw_all := lw_g (lw_at lw_m4 193 rfl) rfl
theorem q986 : (Jvm.Cond.instanceMethod ({ cls := "java/lang/String", name := "isLatin1", desc := "()Z" } : Jvm.MethodName)) ∈ lw_all := lw_g (lw_at lw_m4 194 rfl) rfl
theorem q987 : (Jvm.Cond.selects "java/lang/String" ({ cls := "java/lang/String", name := "isLatin1", desc := "()Z" } : Jvm.MethodName) ({ cls := "java/lang/String", name := "isLatin1", desc := "()Z" } : Jvm.MethodName)) ∈ lw_all := lw_g (lw_at lw_m4 195 rfl) rfl
theorem q988 : (Jvm.Cond.code ({ cls := "java/lang/String", name := "isLatin1", desc := "()Z" } : Jvm.MethodName) prog_47_method_154_code (1 : Nat) (Option.some Jvm.ClassFile.FieldType.boolean)) ∈ lw_all := lw_g (lw_at lw_m4 196 rfl) rfl
theorem q989 : (Jvm.Cond.methodLink "java/lang/String" (495 : Nat) ({ cls := "java/lang/StringLatin1", name := "charAt", desc := "([BI)C" } : Jvm.MethodName)) ∈ lw_all := lw_g (lw_at lw_m4 197 rfl) rfl
theorem q993 : (Jvm.Cond.methodLink "java/lang/String" (498 : Nat) ({ cls := "java/lang/StringUTF16", name := "charAt", desc := "([BI)C" } : Jvm.MethodName)) ∈ lw_all := lw_g (lw_at lw_m4 201 rfl) rfl
theorem q1024 : (Jvm.Cond.instanceMethod ({ cls := "java/lang/String", name := "substring", desc := "(II)Ljava/lang/String;" } : Jvm.MethodName)) ∈ lw_all := lw_g (lw_at lw_m4 232 rfl) rfl
theorem q1025 : (Jvm.Cond.selects "java/lang/String" ({ cls := "java/lang/String", name := "substring", desc := "(II)Ljava/lang/String;" } : Jvm.MethodName) ({ cls := "java/lang/String", name := "substring", desc := "(II)Ljava/lang/String;" } : Jvm.MethodName)) ∈ lw_all := lw_g (lw_at lw_m4 233 rfl) rfl
theorem q1026 : (Jvm.Cond.code ({ cls := "java/lang/String", name := "substring", desc := "(II)Ljava/lang/String;" } : Jvm.MethodName) prog_47_method_92_code (5 : Nat) (Option.some (Jvm.ClassFile.FieldType.object "java/lang/String"))) ∈ lw_all := lw_g (lw_at lw_m4 234 rfl) rfl
theorem q1027 : (Jvm.Cond.methodLink "java/lang/String" (505 : Nat) ({ cls := "java/lang/String", name := "length", desc := "()I" } : Jvm.MethodName)) ∈ lw_all := lw_g (lw_at lw_m4 235 rfl) rfl
theorem q1028 : (Jvm.Cond.methodLink "java/lang/String" (521 : Nat) ({ cls := "java/lang/String", name := "checkBoundsBeginEnd", desc := "(III)V" } : Jvm.MethodName)) ∈ lw_all := lw_g (lw_at lw_m4 236 rfl) rfl
theorem q1029 : (Jvm.Cond.methodLink "java/lang/String" (685 : Nat) ({ cls := "java/lang/StringLatin1", name := "newString", desc := "([BII)Ljava/lang/String;" } : Jvm.MethodName)) ∈ lw_all := lw_g (lw_at lw_m4 237 rfl) rfl
theorem q1036 : (Jvm.Cond.instanceMethod ({ cls := "java/lang/String", name := "<init>", desc := "([BB)V" } : Jvm.MethodName)) ∈ lw_all := lw_g (lw_at lw_m5 4 rfl) rfl
theorem q1037 : (Jvm.Cond.code ({ cls := "java/lang/String", name := "<init>", desc := "([BB)V" } : Jvm.MethodName) prog_47_method_151_code (3 : Nat) (Option.none : Option Jvm.ClassFile.FieldType)) ∈ lw_all := lw_g (lw_at lw_m5 5 rfl) rfl
theorem q1038 : (Jvm.Cond.methodLink "java/lang/String" (689 : Nat) ({ cls := "java/lang/StringUTF16", name := "newString", desc := "([BII)Ljava/lang/String;" } : Jvm.MethodName)) ∈ lw_all := lw_g (lw_at lw_m5 6 rfl) rfl
theorem q1098 : (Jvm.Cond.instanceMethod ({ cls := "java/lang/String", name := "equals", desc := "(Ljava/lang/Object;)Z" } : Jvm.MethodName)) ∈ lw_all := lw_g (lw_at lw_m5 66 rfl) rfl
theorem q1099 : (Jvm.Cond.selects "java/lang/String" ({ cls := "java/lang/String", name := "equals", desc := "(Ljava/lang/Object;)Z" } : Jvm.MethodName) ({ cls := "java/lang/String", name := "equals", desc := "(Ljava/lang/Object;)Z" } : Jvm.MethodName)) ∈ lw_all := lw_g (lw_at lw_m5 67 rfl) rfl
theorem q1100 : (Jvm.Cond.code ({ cls := "java/lang/String", name := "equals", desc := "(Ljava/lang/Object;)Z" } : Jvm.MethodName) prog_47_method_66_code (3 : Nat) (Option.some Jvm.ClassFile.FieldType.boolean)) ∈ lw_all := lw_g (lw_at lw_m5 68 rfl) rfl
theorem q1101 : (Jvm.Cond.classLink "java/lang/String" (10 : Nat) "java/lang/String") ∈ lw_all := lw_g (lw_at lw_m5 69 rfl) rfl
theorem q1102 : (Jvm.Cond.methodLink "java/lang/String" (541 : Nat) ({ cls := "java/lang/StringLatin1", name := "equals", desc := "([B[B)Z" } : Jvm.MethodName)) ∈ lw_all := lw_g (lw_at lw_m5 70 rfl) rfl
theorem q1855 : (Jvm.Cond.selects "java/lang/String" ({ cls := "java/lang/Object", name := "hashCode", desc := "()I" } : Jvm.MethodName) ({ cls := "java/lang/String", name := "hashCode", desc := "()I" } : Jvm.MethodName)) ∈ lw_all := lw_g (lw_at lw_m8 103 rfl) rfl
theorem q1856 : (Jvm.Cond.instanceMethod ({ cls := "java/lang/String", name := "hashCode", desc := "()I" } : Jvm.MethodName)) ∈ lw_all := lw_g (lw_at lw_m8 104 rfl) rfl
theorem q1857 : (Jvm.Cond.code ({ cls := "java/lang/String", name := "hashCode", desc := "()I" } : Jvm.MethodName) prog_47_method_78_code (2 : Nat) (Option.some Jvm.ClassFile.FieldType.int)) ∈ lw_all := lw_g (lw_at lw_m8 105 rfl) rfl
theorem q1858 : (Jvm.Cond.methodLink "java/lang/String" (628 : Nat) ({ cls := "java/lang/StringLatin1", name := "hashCode", desc := "([B)I" } : Jvm.MethodName)) ∈ lw_all := lw_g (lw_at lw_m8 106 rfl) rfl
theorem q1907 : (Jvm.Cond.methodLink "java/lang/String" (632 : Nat) ({ cls := "java/lang/StringUTF16", name := "hashCode", desc := "([B)I" } : Jvm.MethodName)) ∈ lw_all := lw_g (lw_at lw_m8 155 rfl) rfl
theorem q1955 : (Jvm.Cond.selects "java/lang/String" ({ cls := "java/lang/Object", name := "equals", desc := "(Ljava/lang/Object;)Z" } : Jvm.MethodName) ({ cls := "java/lang/String", name := "equals", desc := "(Ljava/lang/Object;)Z" } : Jvm.MethodName)) ∈ lw_all := lw_g (lw_at lw_m8 203 rfl) rfl
theorem q2040 : (Jvm.Cond.castable "java/lang/String" "java/lang/Comparable") ∈ lw_tbl := lw_at lw_m9 48 rfl
theorem q2041 : (Jvm.Cond.selects "java/lang/String" ({ cls := "java/lang/Comparable", name := "compareTo", desc := "(Ljava/lang/Object;)I" } : Jvm.MethodName) ({ cls := "java/lang/String", name := "compareTo", desc := "(Ljava/lang/Object;)I" } : Jvm.MethodName)) ∈ lw_all := lw_g (lw_at lw_m9 49 rfl) rfl
theorem q2042 : (Jvm.Cond.unhidden "java/lang/String" "compareTo" "(Ljava/lang/Object;)I") ∈ lw_tbl := lw_at lw_m9 50 rfl
theorem q2043 : (Jvm.Cond.instanceMethod ({ cls := "java/lang/String", name := "compareTo", desc := "(Ljava/lang/Object;)I" } : Jvm.MethodName)) ∈ lw_all := lw_g (lw_at lw_m9 51 rfl) rfl
theorem q2044 : (Jvm.Cond.publicMethod ({ cls := "java/lang/String", name := "compareTo", desc := "(Ljava/lang/Object;)I" } : Jvm.MethodName)) ∈ lw_tbl := lw_at lw_m9 52 rfl
theorem q2045 : (Jvm.Cond.code ({ cls := "java/lang/String", name := "compareTo", desc := "(Ljava/lang/Object;)I" } : Jvm.MethodName) prog_47_method_162_code (2 : Nat) (Option.some Jvm.ClassFile.FieldType.int)) ∈ lw_all := lw_g (lw_at lw_m9 53 rfl) rfl
theorem q2046 : (Jvm.Cond.methodLink "java/lang/String" (1084 : Nat) ({ cls := "java/lang/String", name := "compareTo", desc := "(Ljava/lang/String;)I" } : Jvm.MethodName)) ∈ lw_all := lw_g (lw_at lw_m9 54 rfl) rfl
theorem q2047 : (Jvm.Cond.instanceMethod ({ cls := "java/lang/String", name := "compareTo", desc := "(Ljava/lang/String;)I" } : Jvm.MethodName)) ∈ lw_all := lw_g (lw_at lw_m9 55 rfl) rfl
theorem q2048 : (Jvm.Cond.selects "java/lang/String" ({ cls := "java/lang/String", name := "compareTo", desc := "(Ljava/lang/String;)I" } : Jvm.MethodName) ({ cls := "java/lang/String", name := "compareTo", desc := "(Ljava/lang/String;)I" } : Jvm.MethodName)) ∈ lw_all := lw_g (lw_at lw_m9 56 rfl) rfl
theorem q2049 : (Jvm.Cond.code ({ cls := "java/lang/String", name := "compareTo", desc := "(Ljava/lang/String;)I" } : Jvm.MethodName) prog_47_method_71_code (5 : Nat) (Option.some Jvm.ClassFile.FieldType.int)) ∈ lw_all := lw_g (lw_at lw_m9 57 rfl) rfl
theorem q2050 : (Jvm.Cond.methodLink "java/lang/String" (586 : Nat) ({ cls := "java/lang/StringLatin1", name := "compareTo", desc := "([B[B)I" } : Jvm.MethodName)) ∈ lw_all := lw_g (lw_at lw_m9 58 rfl) rfl
theorem q2164 : (Jvm.Cond.methodLink "java/lang/String" (590 : Nat) ({ cls := "java/lang/StringUTF16", name := "compareTo", desc := "([B[B)I" } : Jvm.MethodName)) ∈ lw_all := lw_g (lw_at lw_m9 172 rfl) rfl
theorem q2171 : (Jvm.Cond.methodLink "java/lang/String" (591 : Nat) ({ cls := "java/lang/StringLatin1", name := "compareToUTF16", desc := "([B[B)I" } : Jvm.MethodName)) ∈ lw_all := lw_g (lw_at lw_m9 179 rfl) rfl
theorem q2182 : (Jvm.Cond.methodLink "java/lang/String" (594 : Nat) ({ cls := "java/lang/StringUTF16", name := "compareToLatin1", desc := "([B[B)I" } : Jvm.MethodName)) ∈ lw_all := lw_g (lw_at lw_m9 190 rfl) rfl
theorem q2208 : (Jvm.Cond.static ({ cls := "java/lang/String", name := "checkOffset", desc := "(II)V" } : Jvm.MethodName)) ∈ lw_all := lw_g (lw_at lw_m9 216 rfl) rfl
theorem q2209 : (Jvm.Cond.code ({ cls := "java/lang/String", name := "checkOffset", desc := "(II)V" } : Jvm.MethodName) prog_47_method_156_code (2 : Nat) (Option.none : Option Jvm.ClassFile.FieldType)) ∈ lw_all := lw_g (lw_at lw_m9 217 rfl) rfl
theorem q3164 : (Jvm.Cond.castable "java/lang/String" "java/lang/Object") ∈ lw_tbl := lw_at lw_m13 212 rfl
theorem in_J6 : ∀ w ∈ wsJ60, w ∈ lw_all := lw_in wsJ60 [854, 856, 858, 860] (by decide +kernel) (by decide +kernel)
/-! java/lang/Throwable -/
set_option maxRecDepth 100000
def RJ8 : String := "java/lang/Throwable"
def TJ8 : u_T := fun k => match k with
  | 0 => ("java/lang/Throwable", "cause", "Ljava/lang/Throwable;", false)
  | 1 => ("java/lang/Throwable", "stackTrace", "[Ljava/lang/StackTraceElement;", false)
  | 2 => ("java/lang/Throwable", "suppressedExceptions", "Ljava/util/List;", false)
  | 3 => ("java/lang/Throwable", "detailMessage", "Ljava/lang/String;", false)
  | _ => ("java/lang/Throwable", "backtrace", "Ljava/lang/Object;", false)
def tyJ8 : Nat → FieldType := fun k => match k with
  | 0 => .object "java/lang/Throwable"
  | 1 => .array (.object "java/lang/StackTraceElement")
  | 2 => .object "java/util/List"
  | 3 => .object "java/lang/String"
  | _ => .object "java/lang/Object"
abbrev wsJ80 : List Cond := u_ws RJ8 TJ8 5
theorem nmJ8 : ∀ a, a < 5 → ∀ b, b < 5 → a ≠ b → (TJ8 a).2.1 ≠ (TJ8 b).2.1 := by decide +kernel
theorem tyJ8_ok : ∀ k, k < 5 → parseFieldDescriptor (TJ8 k).2.2.1 = some (tyJ8 k) := by decide +kernel
abbrev cJ8_init : ByteArray := prog_54_method_1_code
def yJ8_init : MethodName := ⟨RJ8, "<init>", "()V"⟩
def dkwJ8_init_1 : List UInt8 := [182, 0, 27, 87, 177]
abbrev dktJ8_init_1 : List UInt8 := dkwJ8_init_1 ++ []
def dkwJ8_init_0 : List UInt8 := [42, 183, 0, 1, 42, 42, 181, 0, 7, 42, 178, 0, 13, 181, 0, 17, 42, 178, 0, 20, 181, 0, 24, 42]
abbrev dktJ8_init_0 : List UInt8 := dkwJ8_init_0 ++ dktJ8_init_1
theorem dksJ8_init_0 : cJ8_init.data.toList.drop 0 = dktJ8_init_0 := by decide +kernel
theorem dksJ8_init_1 : cJ8_init.data.toList.drop 24 = dktJ8_init_1 := dk_seg dksJ8_init_0 24 rfl rfl
theorem dJ8_init_0 : decode cJ8_init 0 = .ok (.aload_n 0, 1) := dk_42 (dk_at dksJ8_init_0 0 rfl rfl)
theorem dJ8_init_1 : decode cJ8_init 1 = .ok (.invokespecial 1, 3) := dk_183 0 1 (dk_at dksJ8_init_0 1 rfl rfl)
theorem dJ8_init_4 : decode cJ8_init 4 = .ok (.aload_n 0, 1) := dk_42 (dk_at dksJ8_init_0 4 rfl rfl)
theorem dJ8_init_5 : decode cJ8_init 5 = .ok (.aload_n 0, 1) := dk_42 (dk_at dksJ8_init_0 5 rfl rfl)
theorem dJ8_init_6 : decode cJ8_init 6 = .ok (.putfield 7, 3) := dk_181 0 7 (dk_at dksJ8_init_0 6 rfl rfl)
theorem dJ8_init_9 : decode cJ8_init 9 = .ok (.aload_n 0, 1) := dk_42 (dk_at dksJ8_init_0 9 rfl rfl)
theorem dJ8_init_10 : decode cJ8_init 10 = .ok (.getstatic 13, 3) := dk_178 0 13 (dk_at dksJ8_init_0 10 rfl rfl)
theorem dJ8_init_13 : decode cJ8_init 13 = .ok (.putfield 17, 3) := dk_181 0 17 (dk_at dksJ8_init_0 13 rfl rfl)
theorem dJ8_init_16 : decode cJ8_init 16 = .ok (.aload_n 0, 1) := dk_42 (dk_at dksJ8_init_0 16 rfl rfl)
theorem dJ8_init_17 : decode cJ8_init 17 = .ok (.getstatic 20, 3) := dk_178 0 20 (dk_at dksJ8_init_0 17 rfl rfl)
theorem dJ8_init_20 : decode cJ8_init 20 = .ok (.putfield 24, 3) := dk_181 0 24 (dk_at dksJ8_init_0 20 rfl rfl)
theorem dJ8_init_23 : decode cJ8_init 23 = .ok (.aload_n 0, 1) := dk_42 (dk_at dksJ8_init_0 23 rfl rfl)
theorem dJ8_init_24 : decode cJ8_init 24 = .ok (.invokevirtual 27, 3) := dk_182 0 27 (dk_at dksJ8_init_1 0 rfl rfl)
theorem dJ8_init_27 : decode cJ8_init 27 = .ok (.pop, 1) := dk_87 (dk_at dksJ8_init_1 3 rfl rfl)
theorem dJ8_init_28 : decode cJ8_init 28 = .ok (.return_, 1) := dk_177 (dk_at dksJ8_init_1 4 rfl rfl)
abbrev cJ8_init_2 : ByteArray := prog_54_method_2_code
def yJ8_init_2 : MethodName := ⟨RJ8, "<init>", "(Ljava/lang/String;)V"⟩
def dkwJ8_init_2_1 : List UInt8 := [182, 0, 27, 87, 42, 43, 181, 0, 31, 177]
abbrev dktJ8_init_2_1 : List UInt8 := dkwJ8_init_2_1 ++ []
def dkwJ8_init_2_0 : List UInt8 := [42, 183, 0, 1, 42, 42, 181, 0, 7, 42, 178, 0, 13, 181, 0, 17, 42, 178, 0, 20, 181, 0, 24, 42]
abbrev dktJ8_init_2_0 : List UInt8 := dkwJ8_init_2_0 ++ dktJ8_init_2_1
theorem dksJ8_init_2_0 : cJ8_init_2.data.toList.drop 0 = dktJ8_init_2_0 := by decide +kernel
theorem dksJ8_init_2_1 : cJ8_init_2.data.toList.drop 24 = dktJ8_init_2_1 := dk_seg dksJ8_init_2_0 24 rfl rfl
theorem dJ8_init_2_0 : decode cJ8_init_2 0 = .ok (.aload_n 0, 1) := dk_42 (dk_at dksJ8_init_2_0 0 rfl rfl)
theorem dJ8_init_2_1 : decode cJ8_init_2 1 = .ok (.invokespecial 1, 3) := dk_183 0 1 (dk_at dksJ8_init_2_0 1 rfl rfl)
theorem dJ8_init_2_4 : decode cJ8_init_2 4 = .ok (.aload_n 0, 1) := dk_42 (dk_at dksJ8_init_2_0 4 rfl rfl)
theorem dJ8_init_2_5 : decode cJ8_init_2 5 = .ok (.aload_n 0, 1) := dk_42 (dk_at dksJ8_init_2_0 5 rfl rfl)
theorem dJ8_init_2_6 : decode cJ8_init_2 6 = .ok (.putfield 7, 3) := dk_181 0 7 (dk_at dksJ8_init_2_0 6 rfl rfl)
theorem dJ8_init_2_9 : decode cJ8_init_2 9 = .ok (.aload_n 0, 1) := dk_42 (dk_at dksJ8_init_2_0 9 rfl rfl)
theorem dJ8_init_2_10 : decode cJ8_init_2 10 = .ok (.getstatic 13, 3) := dk_178 0 13 (dk_at dksJ8_init_2_0 10 rfl rfl)
theorem dJ8_init_2_13 : decode cJ8_init_2 13 = .ok (.putfield 17, 3) := dk_181 0 17 (dk_at dksJ8_init_2_0 13 rfl rfl)
theorem dJ8_init_2_16 : decode cJ8_init_2 16 = .ok (.aload_n 0, 1) := dk_42 (dk_at dksJ8_init_2_0 16 rfl rfl)
theorem dJ8_init_2_17 : decode cJ8_init_2 17 = .ok (.getstatic 20, 3) := dk_178 0 20 (dk_at dksJ8_init_2_0 17 rfl rfl)
theorem dJ8_init_2_20 : decode cJ8_init_2 20 = .ok (.putfield 24, 3) := dk_181 0 24 (dk_at dksJ8_init_2_0 20 rfl rfl)
theorem dJ8_init_2_23 : decode cJ8_init_2 23 = .ok (.aload_n 0, 1) := dk_42 (dk_at dksJ8_init_2_0 23 rfl rfl)
theorem dJ8_init_2_24 : decode cJ8_init_2 24 = .ok (.invokevirtual 27, 3) := dk_182 0 27 (dk_at dksJ8_init_2_1 0 rfl rfl)
theorem dJ8_init_2_27 : decode cJ8_init_2 27 = .ok (.pop, 1) := dk_87 (dk_at dksJ8_init_2_1 3 rfl rfl)
theorem dJ8_init_2_28 : decode cJ8_init_2 28 = .ok (.aload_n 0, 1) := dk_42 (dk_at dksJ8_init_2_1 4 rfl rfl)
theorem dJ8_init_2_29 : decode cJ8_init_2 29 = .ok (.aload_n 1, 1) := dk_43 (dk_at dksJ8_init_2_1 5 rfl rfl)
theorem dJ8_init_2_30 : decode cJ8_init_2 30 = .ok (.putfield 31, 3) := dk_181 0 31 (dk_at dksJ8_init_2_1 6 rfl rfl)
theorem dJ8_init_2_33 : decode cJ8_init_2 33 = .ok (.return_, 1) := dk_177 (dk_at dksJ8_init_2_1 9 rfl rfl)
theorem q84 : (Jvm.Cond.initialized "java/lang/Throwable") ∈ lw_all := lw_g (lw_at lw_m1 12 rfl) rfl
theorem q356 : (Jvm.Cond.declares ({ cls := "java/lang/Throwable", name := "<init>", desc := "()V" } : Jvm.MethodName)) ∈ lw_tbl := lw_at lw_m2 44 rfl
theorem q357 : (Jvm.Cond.declares ({ cls := "java/lang/Throwable", name := "<init>", desc := "(Ljava/lang/String;)V" } : Jvm.MethodName)) ∈ lw_tbl := lw_at lw_m2 45 rfl
theorem q361 : (Jvm.Cond.lays "java/lang/Throwable" "java/lang/Throwable" "cause" "Ljava/lang/Throwable;") ∈ lw_all := lw_g (lw_at lw_m2 49 rfl) rfl
theorem q363 : (Jvm.Cond.lays "java/lang/Throwable" "java/lang/Throwable" "stackTrace" "[Ljava/lang/StackTraceElement;") ∈ lw_all := lw_g (lw_at lw_m2 51 rfl) rfl
theorem q365 : (Jvm.Cond.lays "java/lang/Throwable" "java/lang/Throwable" "suppressedExceptions" "Ljava/util/List;") ∈ lw_all := lw_g (lw_at lw_m2 53 rfl) rfl
theorem q367 : (Jvm.Cond.lays "java/lang/Throwable" "java/lang/Throwable" "detailMessage" "Ljava/lang/String;") ∈ lw_all := lw_g (lw_at lw_m2 55 rfl) rfl
theorem q369 : (Jvm.Cond.lays "java/lang/Throwable" "java/lang/Throwable" "backtrace" "Ljava/lang/Object;") ∈ lw_all := lw_g (lw_at lw_m2 57 rfl) rfl
theorem q370 : (Jvm.Cond.fieldLink "java/lang/Throwable" (198 : Nat) "java/lang/Throwable" "backtrace" "Ljava/lang/Object;") ∈ lw_all := lw_g (lw_at lw_m2 58 rfl) rfl
theorem q371 : (Jvm.Cond.superclass "java/lang/Throwable" "java/lang/Object") ∈ lw_all := lw_g (lw_at lw_m2 59 rfl) rfl
theorem q372 : (Jvm.Cond.instanceMethod ({ cls := "java/lang/Throwable", name := "<init>", desc := "()V" } : Jvm.MethodName)) ∈ lw_all := lw_g (lw_at lw_m2 60 rfl) rfl
theorem q373 : (Jvm.Cond.code ({ cls := "java/lang/Throwable", name := "<init>", desc := "()V" } : Jvm.MethodName) prog_54_method_1_code (1 : Nat) (Option.none : Option Jvm.ClassFile.FieldType)) ∈ lw_all := lw_g (lw_at lw_m2 61 rfl) rfl
theorem q374 : (Jvm.Cond.methodLink "java/lang/Throwable" (1 : Nat) ({ cls := "java/lang/Object", name := "<init>", desc := "()V" } : Jvm.MethodName)) ∈ lw_all := lw_g (lw_at lw_m2 62 rfl) rfl
theorem q375 : (Jvm.Cond.fieldLink "java/lang/Throwable" (13 : Nat) "java/lang/Throwable" "UNASSIGNED_STACK" "[Ljava/lang/StackTraceElement;") ∈ lw_all := lw_g (lw_at lw_m2 63 rfl) rfl
theorem q376 : (Jvm.Cond.laysStatic "java/lang/Throwable" "UNASSIGNED_STACK" "[Ljava/lang/StackTraceElement;") ∈ lw_tbl := lw_at lw_m2 64 rfl
theorem q377 : (Jvm.Cond.fieldLink "java/lang/Throwable" (20 : Nat) "java/lang/Throwable" "SUPPRESSED_SENTINEL" "Ljava/util/List;") ∈ lw_all := lw_g (lw_at lw_m2 65 rfl) rfl
theorem q378 : (Jvm.Cond.laysStatic "java/lang/Throwable" "SUPPRESSED_SENTINEL" "Ljava/util/List;") ∈ lw_tbl := lw_at lw_m2 66 rfl
theorem q379 : (Jvm.Cond.methodLink "java/lang/Throwable" (27 : Nat) ({ cls := "java/lang/Throwable", name := "fillInStackTrace", desc := "()Ljava/lang/Throwable;" } : Jvm.MethodName)) ∈ lw_all := lw_g (lw_at lw_m2 67 rfl) rfl
theorem q380 : (Jvm.Cond.instanceMethod ({ cls := "java/lang/Throwable", name := "fillInStackTrace", desc := "()Ljava/lang/Throwable;" } : Jvm.MethodName)) ∈ lw_all := lw_g (lw_at lw_m2 68 rfl) rfl
theorem q381 : (Jvm.Cond.sameMethod "java/lang/Throwable" "java/lang/Throwable" "fillInStackTrace" "()Ljava/lang/Throwable;") ∈ lw_all := lw_g (lw_at lw_m2 69 rfl) rfl
theorem q391 : (Jvm.Cond.codeSync ({ cls := "java/lang/Throwable", name := "fillInStackTrace", desc := "()Ljava/lang/Throwable;" } : Jvm.MethodName) prog_54_method_18_code (1 : Nat) (Option.some (Jvm.ClassFile.FieldType.object "java/lang/Throwable"))) ∈ lw_all := lw_g (lw_at lw_m2 79 rfl) rfl
theorem q392 : (Jvm.Cond.methodLink "java/lang/Throwable" (202 : Nat) ({ cls := "java/lang/Throwable", name := "fillInStackTrace", desc := "(I)Ljava/lang/Throwable;" } : Jvm.MethodName)) ∈ lw_all := lw_g (lw_at lw_m2 80 rfl) rfl
theorem q393 : (Jvm.Cond.privateMethod ({ cls := "java/lang/Throwable", name := "fillInStackTrace", desc := "(I)Ljava/lang/Throwable;" } : Jvm.MethodName)) ∈ lw_tbl := lw_at lw_m2 81 rfl
theorem q394 : (Jvm.Cond.instanceMethod ({ cls := "java/lang/Throwable", name := "fillInStackTrace", desc := "(I)Ljava/lang/Throwable;" } : Jvm.MethodName)) ∈ lw_all := lw_g (lw_at lw_m2 82 rfl) rfl
theorem q395 : (Jvm.Cond.instantiable "java/lang/Throwable" (6 : Nat)) ∈ lw_all := lw_g (lw_at lw_m2 83 rfl) rfl
theorem q396 : (Jvm.Cond.native ({ cls := "java/lang/Throwable", name := "fillInStackTrace", desc := "(I)Ljava/lang/Throwable;" } : Jvm.MethodName)) ∈ lw_all := lw_g (lw_at lw_m2 84 rfl) rfl
theorem q407 : (Jvm.Cond.fieldLink "java/lang/Throwable" (198 : Nat) "java/lang/Throwable" "backtrace" "Ljava/lang/Object;") ∈ lw_all := lw_g (lw_at lw_m2 95 rfl) rfl
theorem q408 : (Jvm.Cond.fieldLink "java/lang/Throwable" (31 : Nat) "java/lang/Throwable" "detailMessage" "Ljava/lang/String;") ∈ lw_all := lw_g (lw_at lw_m2 96 rfl) rfl
theorem q409 : (Jvm.Cond.fieldLink "java/lang/Throwable" (7 : Nat) "java/lang/Throwable" "cause" "Ljava/lang/Throwable;") ∈ lw_all := lw_g (lw_at lw_m2 97 rfl) rfl
theorem q410 : (Jvm.Cond.fieldLink "java/lang/Throwable" (17 : Nat) "java/lang/Throwable" "stackTrace" "[Ljava/lang/StackTraceElement;") ∈ lw_all := lw_g (lw_at lw_m2 98 rfl) rfl
theorem q411 : (Jvm.Cond.fieldLink "java/lang/Throwable" (24 : Nat) "java/lang/Throwable" "suppressedExceptions" "Ljava/util/List;") ∈ lw_all := lw_g (lw_at lw_m2 99 rfl) rfl
theorem q412 : (Jvm.Cond.soleField "java/lang/Throwable" "backtrace") ∈ lw_all := lw_g (lw_at lw_m2 100 rfl) rfl
theorem q413 : (Jvm.Cond.soleField "java/lang/Throwable" "detailMessage") ∈ lw_all := lw_g (lw_at lw_m2 101 rfl) rfl
theorem q414 : (Jvm.Cond.soleField "java/lang/Throwable" "cause") ∈ lw_all := lw_g (lw_at lw_m2 102 rfl) rfl
theorem q415 : (Jvm.Cond.soleField "java/lang/Throwable" "stackTrace") ∈ lw_all := lw_g (lw_at lw_m2 103 rfl) rfl
theorem q417 : (Jvm.Cond.soleField "java/lang/Throwable" "depth") ∈ lw_all := lw_g (lw_at lw_m2 105 rfl) rfl
theorem q418 : (Jvm.Cond.soleField "java/lang/Throwable" "suppressedExceptions") ∈ lw_all := lw_g (lw_at lw_m2 106 rfl) rfl
theorem q835 : (Jvm.Cond.instanceMethod ({ cls := "java/lang/Throwable", name := "<init>", desc := "(Ljava/lang/String;)V" } : Jvm.MethodName)) ∈ lw_all := lw_g (lw_at lw_m4 43 rfl) rfl
theorem q836 : (Jvm.Cond.code ({ cls := "java/lang/Throwable", name := "<init>", desc := "(Ljava/lang/String;)V" } : Jvm.MethodName) prog_54_method_2_code (2 : Nat) (Option.none : Option Jvm.ClassFile.FieldType)) ∈ lw_all := lw_g (lw_at lw_m4 44 rfl) rfl
theorem q3122 : (Jvm.Cond.sameMethod "java/lang/Throwable" "java/lang/Throwable" "fillInStackTrace" "(I)Ljava/lang/Throwable;") ∈ lw_all := lw_g (lw_at lw_m13 170 rfl) rfl
theorem q3190 : (Jvm.Cond.castable "java/lang/Throwable" "java/lang/Object") ∈ lw_tbl := lw_at lw_m13 238 rfl
theorem in_J8 : ∀ w ∈ wsJ80, w ∈ lw_all := lw_in wsJ80 [361, 363, 365, 367, 369] (by decide +kernel) (by decide +kernel)
/-! java/lang/Exception -/
set_option maxRecDepth 100000
def RJ9 : String := "java/lang/Exception"
abbrev cJ9_init : ByteArray := prog_36_method_1_code
def yJ9_init : MethodName := ⟨RJ9, "<init>", "()V"⟩
theorem dJ9_init_0 : decode cJ9_init 0 = .ok (.aload_n 0, 1) := by decide +kernel
theorem dJ9_init_1 : decode cJ9_init 1 = .ok (.invokespecial 1, 3) := by decide +kernel
theorem dJ9_init_4 : decode cJ9_init 4 = .ok (.return_, 1) := by decide +kernel
abbrev cJ9_init_2 : ByteArray := prog_36_method_2_code
def yJ9_init_2 : MethodName := ⟨RJ9, "<init>", "(Ljava/lang/String;)V"⟩
def dkwJ9_init_2_0 : List UInt8 := [42, 43, 183, 0, 7, 177]
abbrev dktJ9_init_2_0 : List UInt8 := dkwJ9_init_2_0 ++ []
theorem dksJ9_init_2_0 : cJ9_init_2.data.toList.drop 0 = dktJ9_init_2_0 := by decide +kernel
theorem dJ9_init_2_0 : decode cJ9_init_2 0 = .ok (.aload_n 0, 1) := dk_42 (dk_at dksJ9_init_2_0 0 rfl rfl)
theorem dJ9_init_2_1 : decode cJ9_init_2 1 = .ok (.aload_n 1, 1) := dk_43 (dk_at dksJ9_init_2_0 1 rfl rfl)
theorem dJ9_init_2_2 : decode cJ9_init_2 2 = .ok (.invokespecial 7, 3) := dk_183 0 7 (dk_at dksJ9_init_2_0 2 rfl rfl)
theorem dJ9_init_2_5 : decode cJ9_init_2 5 = .ok (.return_, 1) := dk_177 (dk_at dksJ9_init_2_0 5 rfl rfl)
theorem q85 : (Jvm.Cond.initialized "java/lang/Exception") ∈ lw_all := lw_g (lw_at lw_m1 13 rfl) rfl
theorem q354 : (Jvm.Cond.declares ({ cls := "java/lang/Exception", name := "<init>", desc := "()V" } : Jvm.MethodName)) ∈ lw_tbl := lw_at lw_m2 42 rfl
theorem q355 : (Jvm.Cond.declares ({ cls := "java/lang/Exception", name := "<init>", desc := "(Ljava/lang/String;)V" } : Jvm.MethodName)) ∈ lw_tbl := lw_at lw_m2 43 rfl
theorem q404 : (Jvm.Cond.instanceMethod ({ cls := "java/lang/Exception", name := "<init>", desc := "()V" } : Jvm.MethodName)) ∈ lw_all := lw_g (lw_at lw_m2 92 rfl) rfl
theorem q405 : (Jvm.Cond.code ({ cls := "java/lang/Exception", name := "<init>", desc := "()V" } : Jvm.MethodName) prog_36_method_1_code (1 : Nat) (Option.none : Option Jvm.ClassFile.FieldType)) ∈ lw_all := lw_g (lw_at lw_m2 93 rfl) rfl
theorem q406 : (Jvm.Cond.methodLink "java/lang/Exception" (1 : Nat) ({ cls := "java/lang/Throwable", name := "<init>", desc := "()V" } : Jvm.MethodName)) ∈ lw_all := lw_g (lw_at lw_m2 94 rfl) rfl
theorem q832 : (Jvm.Cond.instanceMethod ({ cls := "java/lang/Exception", name := "<init>", desc := "(Ljava/lang/String;)V" } : Jvm.MethodName)) ∈ lw_all := lw_g (lw_at lw_m4 40 rfl) rfl
theorem q833 : (Jvm.Cond.code ({ cls := "java/lang/Exception", name := "<init>", desc := "(Ljava/lang/String;)V" } : Jvm.MethodName) prog_36_method_2_code (2 : Nat) (Option.none : Option Jvm.ClassFile.FieldType)) ∈ lw_all := lw_g (lw_at lw_m4 41 rfl) rfl
theorem q834 : (Jvm.Cond.methodLink "java/lang/Exception" (7 : Nat) ({ cls := "java/lang/Throwable", name := "<init>", desc := "(Ljava/lang/String;)V" } : Jvm.MethodName)) ∈ lw_all := lw_g (lw_at lw_m4 42 rfl) rfl
/-! java/lang/RuntimeException -/
set_option maxRecDepth 100000
def RJ10 : String := "java/lang/RuntimeException"
abbrev cJ10_init : ByteArray := prog_46_method_1_code
def yJ10_init : MethodName := ⟨RJ10, "<init>", "()V"⟩
theorem dJ10_init_0 : decode cJ10_init 0 = .ok (.aload_n 0, 1) := by decide +kernel
theorem dJ10_init_1 : decode cJ10_init 1 = .ok (.invokespecial 1, 3) := by decide +kernel
theorem dJ10_init_4 : decode cJ10_init 4 = .ok (.return_, 1) := by decide +kernel
abbrev cJ10_init_2 : ByteArray := prog_46_method_2_code
def yJ10_init_2 : MethodName := ⟨RJ10, "<init>", "(Ljava/lang/String;)V"⟩
def dkwJ10_init_2_0 : List UInt8 := [42, 43, 183, 0, 7, 177]
abbrev dktJ10_init_2_0 : List UInt8 := dkwJ10_init_2_0 ++ []
theorem dksJ10_init_2_0 : cJ10_init_2.data.toList.drop 0 = dktJ10_init_2_0 := by decide +kernel
theorem dJ10_init_2_0 : decode cJ10_init_2 0 = .ok (.aload_n 0, 1) := dk_42 (dk_at dksJ10_init_2_0 0 rfl rfl)
theorem dJ10_init_2_1 : decode cJ10_init_2 1 = .ok (.aload_n 1, 1) := dk_43 (dk_at dksJ10_init_2_0 1 rfl rfl)
theorem dJ10_init_2_2 : decode cJ10_init_2 2 = .ok (.invokespecial 7, 3) := dk_183 0 7 (dk_at dksJ10_init_2_0 2 rfl rfl)
theorem dJ10_init_2_5 : decode cJ10_init_2 5 = .ok (.return_, 1) := dk_177 (dk_at dksJ10_init_2_0 5 rfl rfl)
theorem q86 : (Jvm.Cond.initialized "java/lang/RuntimeException") ∈ lw_all := lw_g (lw_at lw_m1 14 rfl) rfl
theorem q352 : (Jvm.Cond.declares ({ cls := "java/lang/RuntimeException", name := "<init>", desc := "()V" } : Jvm.MethodName)) ∈ lw_tbl := lw_at lw_m2 40 rfl
theorem q353 : (Jvm.Cond.declares ({ cls := "java/lang/RuntimeException", name := "<init>", desc := "(Ljava/lang/String;)V" } : Jvm.MethodName)) ∈ lw_tbl := lw_at lw_m2 41 rfl
theorem q401 : (Jvm.Cond.instanceMethod ({ cls := "java/lang/RuntimeException", name := "<init>", desc := "()V" } : Jvm.MethodName)) ∈ lw_all := lw_g (lw_at lw_m2 89 rfl) rfl
theorem q402 : (Jvm.Cond.code ({ cls := "java/lang/RuntimeException", name := "<init>", desc := "()V" } : Jvm.MethodName) prog_46_method_1_code (1 : Nat) (Option.none : Option Jvm.ClassFile.FieldType)) ∈ lw_all := lw_g (lw_at lw_m2 90 rfl) rfl
theorem q403 : (Jvm.Cond.methodLink "java/lang/RuntimeException" (1 : Nat) ({ cls := "java/lang/Exception", name := "<init>", desc := "()V" } : Jvm.MethodName)) ∈ lw_all := lw_g (lw_at lw_m2 91 rfl) rfl
theorem q829 : (Jvm.Cond.instanceMethod ({ cls := "java/lang/RuntimeException", name := "<init>", desc := "(Ljava/lang/String;)V" } : Jvm.MethodName)) ∈ lw_all := lw_g (lw_at lw_m4 37 rfl) rfl
theorem q830 : (Jvm.Cond.code ({ cls := "java/lang/RuntimeException", name := "<init>", desc := "(Ljava/lang/String;)V" } : Jvm.MethodName) prog_46_method_2_code (2 : Nat) (Option.none : Option Jvm.ClassFile.FieldType)) ∈ lw_all := lw_g (lw_at lw_m4 38 rfl) rfl
theorem q831 : (Jvm.Cond.methodLink "java/lang/RuntimeException" (7 : Nat) ({ cls := "java/lang/Exception", name := "<init>", desc := "(Ljava/lang/String;)V" } : Jvm.MethodName)) ∈ lw_all := lw_g (lw_at lw_m4 39 rfl) rfl
/-! java/lang/IllegalArgumentException -/
set_option maxRecDepth 100000
def RJ11 : String := "java/lang/IllegalArgumentException"
def TJ11 : u_T := fun k => match k with
  | 0 => ("java/lang/Throwable", "cause", "Ljava/lang/Throwable;", false)
  | 1 => ("java/lang/Throwable", "stackTrace", "[Ljava/lang/StackTraceElement;", false)
  | 2 => ("java/lang/Throwable", "suppressedExceptions", "Ljava/util/List;", false)
  | 3 => ("java/lang/Throwable", "detailMessage", "Ljava/lang/String;", false)
  | 4 => ("java/lang/Throwable", "backtrace", "Ljava/lang/Object;", false)
  | _ => ("java/lang/Throwable", "depth", "I", false)
def tyJ11 : Nat → FieldType := fun k => match k with
  | 0 => .object "java/lang/Throwable"
  | 1 => .array (.object "java/lang/StackTraceElement")
  | 2 => .object "java/util/List"
  | 3 => .object "java/lang/String"
  | 4 => .object "java/lang/Object"
  | _ => .int
abbrev wsJ110 : List Cond := u_ws RJ11 TJ11 6
theorem nmJ11 : ∀ a, a < 6 → ∀ b, b < 6 → a ≠ b → (TJ11 a).2.1 ≠ (TJ11 b).2.1 := by decide +kernel
theorem tyJ11_ok : ∀ k, k < 6 → parseFieldDescriptor (TJ11 k).2.2.1 = some (tyJ11 k) := by decide +kernel
abbrev cJ11_init : ByteArray := prog_37_method_1_code
def yJ11_init : MethodName := ⟨RJ11, "<init>", "()V"⟩
theorem dJ11_init_0 : decode cJ11_init 0 = .ok (.aload_n 0, 1) := by decide +kernel
theorem dJ11_init_1 : decode cJ11_init 1 = .ok (.invokespecial 1, 3) := by decide +kernel
theorem dJ11_init_4 : decode cJ11_init 4 = .ok (.return_, 1) := by decide +kernel
abbrev cJ11_init_2 : ByteArray := prog_37_method_2_code
def yJ11_init_2 : MethodName := ⟨RJ11, "<init>", "(Ljava/lang/String;)V"⟩
def dkwJ11_init_2_0 : List UInt8 := [42, 43, 183, 0, 7, 177]
abbrev dktJ11_init_2_0 : List UInt8 := dkwJ11_init_2_0 ++ []
theorem dksJ11_init_2_0 : cJ11_init_2.data.toList.drop 0 = dktJ11_init_2_0 := by decide +kernel
theorem dJ11_init_2_0 : decode cJ11_init_2 0 = .ok (.aload_n 0, 1) := dk_42 (dk_at dksJ11_init_2_0 0 rfl rfl)
theorem dJ11_init_2_1 : decode cJ11_init_2 1 = .ok (.aload_n 1, 1) := dk_43 (dk_at dksJ11_init_2_0 1 rfl rfl)
theorem dJ11_init_2_2 : decode cJ11_init_2 2 = .ok (.invokespecial 7, 3) := dk_183 0 7 (dk_at dksJ11_init_2_0 2 rfl rfl)
theorem dJ11_init_2_5 : decode cJ11_init_2 5 = .ok (.return_, 1) := dk_177 (dk_at dksJ11_init_2_0 5 rfl rfl)
theorem q87 : (Jvm.Cond.initialized "java/lang/IllegalArgumentException") ∈ lw_all := lw_g (lw_at lw_m1 15 rfl) rfl
theorem q386 : (Jvm.Cond.selects "java/lang/IllegalArgumentException" ({ cls := "java/lang/Throwable", name := "fillInStackTrace", desc := "()Ljava/lang/Throwable;" } : Jvm.MethodName) ({ cls := "java/lang/Throwable", name := "fillInStackTrace", desc := "()Ljava/lang/Throwable;" } : Jvm.MethodName)) ∈ lw_all := lw_g (lw_at lw_m2 74 rfl) rfl
theorem q512 : (Jvm.Cond.selects "java/lang/IllegalArgumentException" ({ cls := "java/lang/Object", name := "getClass", desc := "()Ljava/lang/Class;" } : Jvm.MethodName) ({ cls := "java/lang/Object", name := "getClass", desc := "()Ljava/lang/Class;" } : Jvm.MethodName)) ∈ lw_all := lw_g (lw_at lw_m2 200 rfl) rfl
theorem q571 : (Jvm.Cond.instantiable "java/lang/IllegalArgumentException" (6 : Nat)) ∈ lw_all := lw_g (lw_at lw_m3 19 rfl) rfl
theorem q572 : (Jvm.Cond.castable "java/lang/IllegalArgumentException" "java/lang/IllegalArgumentException") ∈ lw_tbl := lw_at lw_m3 20 rfl
theorem q573 : (Jvm.Cond.selects "java/lang/IllegalArgumentException" ({ cls := "java/lang/Throwable", name := "fillInStackTrace", desc := "(I)Ljava/lang/Throwable;" } : Jvm.MethodName) ({ cls := "java/lang/Throwable", name := "fillInStackTrace", desc := "(I)Ljava/lang/Throwable;" } : Jvm.MethodName)) ∈ lw_all := lw_g (lw_at lw_m3 21 rfl) rfl
theorem q574 : (Jvm.Cond.lays "java/lang/IllegalArgumentException" "java/lang/Throwable" "cause" "Ljava/lang/Throwable;") ∈ lw_all := lw_g (lw_at lw_m3 22 rfl) rfl
theorem q575 : (Jvm.Cond.lays "java/lang/IllegalArgumentException" "java/lang/Throwable" "stackTrace" "[Ljava/lang/StackTraceElement;") ∈ lw_all := lw_g (lw_at lw_m3 23 rfl) rfl
theorem q576 : (Jvm.Cond.lays "java/lang/IllegalArgumentException" "java/lang/Throwable" "suppressedExceptions" "Ljava/util/List;") ∈ lw_all := lw_g (lw_at lw_m3 24 rfl) rfl
theorem q577 : (Jvm.Cond.lays "java/lang/IllegalArgumentException" "java/lang/Throwable" "detailMessage" "Ljava/lang/String;") ∈ lw_all := lw_g (lw_at lw_m3 25 rfl) rfl
theorem q578 : (Jvm.Cond.lays "java/lang/IllegalArgumentException" "java/lang/Throwable" "backtrace" "Ljava/lang/Object;") ∈ lw_all := lw_g (lw_at lw_m3 26 rfl) rfl
theorem q580 : (Jvm.Cond.instanceMethod ({ cls := "java/lang/IllegalArgumentException", name := "<init>", desc := "()V" } : Jvm.MethodName)) ∈ lw_all := lw_g (lw_at lw_m3 28 rfl) rfl
theorem q581 : (Jvm.Cond.code ({ cls := "java/lang/IllegalArgumentException", name := "<init>", desc := "()V" } : Jvm.MethodName) prog_37_method_1_code (1 : Nat) (Option.none : Option Jvm.ClassFile.FieldType)) ∈ lw_all := lw_g (lw_at lw_m3 29 rfl) rfl
theorem q582 : (Jvm.Cond.methodLink "java/lang/IllegalArgumentException" (1 : Nat) ({ cls := "java/lang/RuntimeException", name := "<init>", desc := "()V" } : Jvm.MethodName)) ∈ lw_all := lw_g (lw_at lw_m3 30 rfl) rfl
theorem q583 : (Jvm.Cond.lays "java/lang/IllegalArgumentException" "java/lang/Throwable" "depth" "I") ∈ lw_all := lw_g (lw_at lw_m3 31 rfl) rfl
theorem q584 : (Jvm.Cond.superclass "java/lang/IllegalArgumentException" "java/lang/RuntimeException") ∈ lw_all := lw_g (lw_at lw_m3 32 rfl) rfl
theorem q826 : (Jvm.Cond.instanceMethod ({ cls := "java/lang/IllegalArgumentException", name := "<init>", desc := "(Ljava/lang/String;)V" } : Jvm.MethodName)) ∈ lw_all := lw_g (lw_at lw_m4 34 rfl) rfl
theorem q827 : (Jvm.Cond.code ({ cls := "java/lang/IllegalArgumentException", name := "<init>", desc := "(Ljava/lang/String;)V" } : Jvm.MethodName) prog_37_method_2_code (2 : Nat) (Option.none : Option Jvm.ClassFile.FieldType)) ∈ lw_all := lw_g (lw_at lw_m4 35 rfl) rfl
theorem q828 : (Jvm.Cond.methodLink "java/lang/IllegalArgumentException" (7 : Nat) ({ cls := "java/lang/RuntimeException", name := "<init>", desc := "(Ljava/lang/String;)V" } : Jvm.MethodName)) ∈ lw_all := lw_g (lw_at lw_m4 36 rfl) rfl
theorem q1846 : (Jvm.Cond.selects "java/lang/IllegalArgumentException" ({ cls := "java/lang/Object", name := "hashCode", desc := "()I" } : Jvm.MethodName) ({ cls := "java/lang/Object", name := "hashCode", desc := "()I" } : Jvm.MethodName)) ∈ lw_all := lw_g (lw_at lw_m8 94 rfl) rfl
theorem q1944 : (Jvm.Cond.selects "java/lang/IllegalArgumentException" ({ cls := "java/lang/Object", name := "equals", desc := "(Ljava/lang/Object;)Z" } : Jvm.MethodName) ({ cls := "java/lang/Object", name := "equals", desc := "(Ljava/lang/Object;)Z" } : Jvm.MethodName)) ∈ lw_all := lw_g (lw_at lw_m8 192 rfl) rfl
theorem q3158 : (Jvm.Cond.castable "java/lang/IllegalArgumentException" "java/lang/Object") ∈ lw_tbl := lw_at lw_m13 206 rfl
theorem in_J11 : ∀ w ∈ wsJ110, w ∈ lw_all := lw_in wsJ110 [574, 575, 576, 577, 578, 583] (by decide +kernel) (by decide +kernel)
/-! java/lang/IllegalStateException -/
set_option maxRecDepth 100000
def RJ12 : String := "java/lang/IllegalStateException"
def TJ12 : u_T := fun k => match k with
  | 0 => ("java/lang/Throwable", "cause", "Ljava/lang/Throwable;", false)
  | 1 => ("java/lang/Throwable", "stackTrace", "[Ljava/lang/StackTraceElement;", false)
  | 2 => ("java/lang/Throwable", "suppressedExceptions", "Ljava/util/List;", false)
  | 3 => ("java/lang/Throwable", "detailMessage", "Ljava/lang/String;", false)
  | 4 => ("java/lang/Throwable", "backtrace", "Ljava/lang/Object;", false)
  | _ => ("java/lang/Throwable", "depth", "I", false)
def tyJ12 : Nat → FieldType := fun k => match k with
  | 0 => .object "java/lang/Throwable"
  | 1 => .array (.object "java/lang/StackTraceElement")
  | 2 => .object "java/util/List"
  | 3 => .object "java/lang/String"
  | 4 => .object "java/lang/Object"
  | _ => .int
abbrev wsJ120 : List Cond := u_ws RJ12 TJ12 6
theorem nmJ12 : ∀ a, a < 6 → ∀ b, b < 6 → a ≠ b → (TJ12 a).2.1 ≠ (TJ12 b).2.1 := by decide +kernel
theorem tyJ12_ok : ∀ k, k < 6 → parseFieldDescriptor (TJ12 k).2.2.1 = some (tyJ12 k) := by decide +kernel
abbrev cJ12_init : ByteArray := prog_38_method_1_code
def yJ12_init : MethodName := ⟨RJ12, "<init>", "()V"⟩
theorem dJ12_init_0 : decode cJ12_init 0 = .ok (.aload_n 0, 1) := by decide +kernel
theorem dJ12_init_1 : decode cJ12_init 1 = .ok (.invokespecial 1, 3) := by decide +kernel
theorem dJ12_init_4 : decode cJ12_init 4 = .ok (.return_, 1) := by decide +kernel
abbrev cJ12_init_2 : ByteArray := prog_38_method_2_code
def yJ12_init_2 : MethodName := ⟨RJ12, "<init>", "(Ljava/lang/String;)V"⟩
def dkwJ12_init_2_0 : List UInt8 := [42, 43, 183, 0, 7, 177]
abbrev dktJ12_init_2_0 : List UInt8 := dkwJ12_init_2_0 ++ []
theorem dksJ12_init_2_0 : cJ12_init_2.data.toList.drop 0 = dktJ12_init_2_0 := by decide +kernel
theorem dJ12_init_2_0 : decode cJ12_init_2 0 = .ok (.aload_n 0, 1) := dk_42 (dk_at dksJ12_init_2_0 0 rfl rfl)
theorem dJ12_init_2_1 : decode cJ12_init_2 1 = .ok (.aload_n 1, 1) := dk_43 (dk_at dksJ12_init_2_0 1 rfl rfl)
theorem dJ12_init_2_2 : decode cJ12_init_2 2 = .ok (.invokespecial 7, 3) := dk_183 0 7 (dk_at dksJ12_init_2_0 2 rfl rfl)
theorem dJ12_init_2_5 : decode cJ12_init_2 5 = .ok (.return_, 1) := dk_177 (dk_at dksJ12_init_2_0 5 rfl rfl)
theorem q88 : (Jvm.Cond.initialized "java/lang/IllegalStateException") ∈ lw_all := lw_g (lw_at lw_m1 16 rfl) rfl
theorem q387 : (Jvm.Cond.selects "java/lang/IllegalStateException" ({ cls := "java/lang/Throwable", name := "fillInStackTrace", desc := "()Ljava/lang/Throwable;" } : Jvm.MethodName) ({ cls := "java/lang/Throwable", name := "fillInStackTrace", desc := "()Ljava/lang/Throwable;" } : Jvm.MethodName)) ∈ lw_all := lw_g (lw_at lw_m2 75 rfl) rfl
theorem q513 : (Jvm.Cond.selects "java/lang/IllegalStateException" ({ cls := "java/lang/Object", name := "getClass", desc := "()Ljava/lang/Class;" } : Jvm.MethodName) ({ cls := "java/lang/Object", name := "getClass", desc := "()Ljava/lang/Class;" } : Jvm.MethodName)) ∈ lw_all := lw_g (lw_at lw_m2 201 rfl) rfl
theorem q596 : (Jvm.Cond.instantiable "java/lang/IllegalStateException" (6 : Nat)) ∈ lw_all := lw_g (lw_at lw_m3 44 rfl) rfl
theorem q597 : (Jvm.Cond.castable "java/lang/IllegalStateException" "java/lang/IllegalStateException") ∈ lw_tbl := lw_at lw_m3 45 rfl
theorem q598 : (Jvm.Cond.selects "java/lang/IllegalStateException" ({ cls := "java/lang/Throwable", name := "fillInStackTrace", desc := "(I)Ljava/lang/Throwable;" } : Jvm.MethodName) ({ cls := "java/lang/Throwable", name := "fillInStackTrace", desc := "(I)Ljava/lang/Throwable;" } : Jvm.MethodName)) ∈ lw_all := lw_g (lw_at lw_m3 46 rfl) rfl
theorem q599 : (Jvm.Cond.lays "java/lang/IllegalStateException" "java/lang/Throwable" "cause" "Ljava/lang/Throwable;") ∈ lw_all := lw_g (lw_at lw_m3 47 rfl) rfl
theorem q600 : (Jvm.Cond.lays "java/lang/IllegalStateException" "java/lang/Throwable" "stackTrace" "[Ljava/lang/StackTraceElement;") ∈ lw_all := lw_g (lw_at lw_m3 48 rfl) rfl
theorem q601 : (Jvm.Cond.lays "java/lang/IllegalStateException" "java/lang/Throwable" "suppressedExceptions" "Ljava/util/List;") ∈ lw_all := lw_g (lw_at lw_m3 49 rfl) rfl
theorem q602 : (Jvm.Cond.lays "java/lang/IllegalStateException" "java/lang/Throwable" "detailMessage" "Ljava/lang/String;") ∈ lw_all := lw_g (lw_at lw_m3 50 rfl) rfl
theorem q603 : (Jvm.Cond.lays "java/lang/IllegalStateException" "java/lang/Throwable" "backtrace" "Ljava/lang/Object;") ∈ lw_all := lw_g (lw_at lw_m3 51 rfl) rfl
theorem q605 : (Jvm.Cond.instanceMethod ({ cls := "java/lang/IllegalStateException", name := "<init>", desc := "()V" } : Jvm.MethodName)) ∈ lw_all := lw_g (lw_at lw_m3 53 rfl) rfl
theorem q606 : (Jvm.Cond.code ({ cls := "java/lang/IllegalStateException", name := "<init>", desc := "()V" } : Jvm.MethodName) prog_38_method_1_code (1 : Nat) (Option.none : Option Jvm.ClassFile.FieldType)) ∈ lw_all := lw_g (lw_at lw_m3 54 rfl) rfl
theorem q607 : (Jvm.Cond.methodLink "java/lang/IllegalStateException" (1 : Nat) ({ cls := "java/lang/RuntimeException", name := "<init>", desc := "()V" } : Jvm.MethodName)) ∈ lw_all := lw_g (lw_at lw_m3 55 rfl) rfl
theorem q608 : (Jvm.Cond.lays "java/lang/IllegalStateException" "java/lang/Throwable" "depth" "I") ∈ lw_all := lw_g (lw_at lw_m3 56 rfl) rfl
theorem q609 : (Jvm.Cond.superclass "java/lang/IllegalStateException" "java/lang/RuntimeException") ∈ lw_all := lw_g (lw_at lw_m3 57 rfl) rfl
theorem q1234 : (Jvm.Cond.instanceMethod ({ cls := "java/lang/IllegalStateException", name := "<init>", desc := "(Ljava/lang/String;)V" } : Jvm.MethodName)) ∈ lw_all := lw_g (lw_at lw_m5 202 rfl) rfl
theorem q1235 : (Jvm.Cond.code ({ cls := "java/lang/IllegalStateException", name := "<init>", desc := "(Ljava/lang/String;)V" } : Jvm.MethodName) prog_38_method_2_code (2 : Nat) (Option.none : Option Jvm.ClassFile.FieldType)) ∈ lw_all := lw_g (lw_at lw_m5 203 rfl) rfl
theorem q1236 : (Jvm.Cond.methodLink "java/lang/IllegalStateException" (7 : Nat) ({ cls := "java/lang/RuntimeException", name := "<init>", desc := "(Ljava/lang/String;)V" } : Jvm.MethodName)) ∈ lw_all := lw_g (lw_at lw_m5 204 rfl) rfl
theorem q1847 : (Jvm.Cond.selects "java/lang/IllegalStateException" ({ cls := "java/lang/Object", name := "hashCode", desc := "()I" } : Jvm.MethodName) ({ cls := "java/lang/Object", name := "hashCode", desc := "()I" } : Jvm.MethodName)) ∈ lw_all := lw_g (lw_at lw_m8 95 rfl) rfl
theorem q1945 : (Jvm.Cond.selects "java/lang/IllegalStateException" ({ cls := "java/lang/Object", name := "equals", desc := "(Ljava/lang/Object;)Z" } : Jvm.MethodName) ({ cls := "java/lang/Object", name := "equals", desc := "(Ljava/lang/Object;)Z" } : Jvm.MethodName)) ∈ lw_all := lw_g (lw_at lw_m8 193 rfl) rfl
theorem q3159 : (Jvm.Cond.castable "java/lang/IllegalStateException" "java/lang/Object") ∈ lw_tbl := lw_at lw_m13 207 rfl
theorem in_J12 : ∀ w ∈ wsJ120, w ∈ lw_all := lw_in wsJ120 [599, 600, 601, 602, 603, 608] (by decide +kernel) (by decide +kernel)
/-! jdk/internal/util/ArraysSupport -/
set_option maxRecDepth 100000
def RJ13 : String := "jdk/internal/util/ArraysSupport"
abbrev cJ13_newLength : ByteArray := prog_86_method_27_code
def yJ13_newLength : MethodName := ⟨RJ13, "newLength", "(III)I"⟩
def dkwJ13_newLength_1 : List UInt8 := [184, 0, 201, 172]
abbrev dktJ13_newLength_1 : List UInt8 := dkwJ13_newLength_1 ++ []
def dkwJ13_newLength_0 : List UInt8 := [26, 27, 28, 184, 0, 194, 96, 62, 3, 29, 162, 0, 11, 29, 18, 200, 163, 0, 5, 29, 172, 26, 27]
abbrev dktJ13_newLength_0 : List UInt8 := dkwJ13_newLength_0 ++ dktJ13_newLength_1
theorem dksJ13_newLength_0 : cJ13_newLength.data.toList.drop 0 = dktJ13_newLength_0 := by decide +kernel
theorem dksJ13_newLength_1 : cJ13_newLength.data.toList.drop 23 = dktJ13_newLength_1 := dk_seg dksJ13_newLength_0 23 rfl rfl
theorem dJ13_newLength_0 : decode cJ13_newLength 0 = .ok (.iload_n 0, 1) := dk_26 (dk_at dksJ13_newLength_0 0 rfl rfl)
theorem dJ13_newLength_1 : decode cJ13_newLength 1 = .ok (.iload_n 1, 1) := dk_27 (dk_at dksJ13_newLength_0 1 rfl rfl)
theorem dJ13_newLength_2 : decode cJ13_newLength 2 = .ok (.iload_n 2, 1) := dk_28 (dk_at dksJ13_newLength_0 2 rfl rfl)
theorem dJ13_newLength_3 : decode cJ13_newLength 3 = .ok (.invokestatic 194, 3) := dk_184 0 194 (dk_at dksJ13_newLength_0 3 rfl rfl)
theorem dJ13_newLength_6 : decode cJ13_newLength 6 = .ok (.iadd, 1) := dk_96 (dk_at dksJ13_newLength_0 6 rfl rfl)
theorem dJ13_newLength_7 : decode cJ13_newLength 7 = .ok (.istore_n 3, 1) := dk_62 (dk_at dksJ13_newLength_0 7 rfl rfl)
theorem dJ13_newLength_8 : decode cJ13_newLength 8 = .ok (.iconst 0, 1) := dk_3 (dk_at dksJ13_newLength_0 8 rfl rfl)
theorem dJ13_newLength_9 : decode cJ13_newLength 9 = .ok (.iload_n 3, 1) := dk_29 (dk_at dksJ13_newLength_0 9 rfl rfl)
theorem dJ13_newLength_10 : decode cJ13_newLength 10 = .ok (.if_icmp .ge 11, 3) := dk_162 0 11 (dk_at dksJ13_newLength_0 10 rfl rfl)
theorem dJ13_newLength_13 : decode cJ13_newLength 13 = .ok (.iload_n 3, 1) := dk_29 (dk_at dksJ13_newLength_0 13 rfl rfl)
theorem dJ13_newLength_14 : decode cJ13_newLength 14 = .ok (.ldc 200, 2) := dk_18 200 (dk_at dksJ13_newLength_0 14 rfl rfl)
theorem dJ13_newLength_16 : decode cJ13_newLength 16 = .ok (.if_icmp .gt 5, 3) := dk_163 0 5 (dk_at dksJ13_newLength_0 16 rfl rfl)
theorem dJ13_newLength_19 : decode cJ13_newLength 19 = .ok (.iload_n 3, 1) := dk_29 (dk_at dksJ13_newLength_0 19 rfl rfl)
theorem dJ13_newLength_20 : decode cJ13_newLength 20 = .ok (.ireturn, 1) := dk_172 (dk_at dksJ13_newLength_0 20 rfl rfl)
theorem dJ13_newLength_21 : decode cJ13_newLength 21 = .ok (.iload_n 0, 1) := dk_26 (dk_at dksJ13_newLength_0 21 rfl rfl)
theorem dJ13_newLength_22 : decode cJ13_newLength 22 = .ok (.iload_n 1, 1) := dk_27 (dk_at dksJ13_newLength_0 22 rfl rfl)
theorem dJ13_newLength_23 : decode cJ13_newLength 23 = .ok (.invokestatic 201, 3) := dk_184 0 201 (dk_at dksJ13_newLength_1 0 rfl rfl)
theorem dJ13_newLength_26 : decode cJ13_newLength 26 = .ok (.ireturn, 1) := dk_172 (dk_at dksJ13_newLength_1 3 rfl rfl)
abbrev cJ13_hugeLength : ByteArray := prog_86_method_28_code
def yJ13_hugeLength : MethodName := ⟨RJ13, "hugeLength", "(II)I"⟩
def dkwJ13_hugeLength_2 : List UInt8 := [191, 28, 18, 200, 163, 0, 6, 18, 200, 172, 28, 172]
abbrev dktJ13_hugeLength_2 : List UInt8 := dkwJ13_hugeLength_2 ++ []
def dkwJ13_hugeLength_1 : List UInt8 := [26, 182, 0, 98, 18, 208, 182, 0, 94, 27, 182, 0, 98, 18, 210, 182, 0, 94, 182, 0, 101, 183, 0, 212]
abbrev dktJ13_hugeLength_1 : List UInt8 := dkwJ13_hugeLength_1 ++ dktJ13_hugeLength_2
def dkwJ13_hugeLength_0 : List UInt8 := [26, 27, 96, 61, 28, 156, 0, 44, 187, 0, 204, 89, 187, 0, 89, 89, 183, 0, 91, 18, 206, 182, 0, 94]
abbrev dktJ13_hugeLength_0 : List UInt8 := dkwJ13_hugeLength_0 ++ dktJ13_hugeLength_1
theorem dksJ13_hugeLength_0 : cJ13_hugeLength.data.toList.drop 0 = dktJ13_hugeLength_0 := by decide +kernel
theorem dksJ13_hugeLength_1 : cJ13_hugeLength.data.toList.drop 24 = dktJ13_hugeLength_1 := dk_seg dksJ13_hugeLength_0 24 rfl rfl
theorem dksJ13_hugeLength_2 : cJ13_hugeLength.data.toList.drop 48 = dktJ13_hugeLength_2 := dk_seg dksJ13_hugeLength_1 24 rfl rfl
theorem dJ13_hugeLength_0 : decode cJ13_hugeLength 0 = .ok (.iload_n 0, 1) := dk_26 (dk_at dksJ13_hugeLength_0 0 rfl rfl)
theorem dJ13_hugeLength_1 : decode cJ13_hugeLength 1 = .ok (.iload_n 1, 1) := dk_27 (dk_at dksJ13_hugeLength_0 1 rfl rfl)
theorem dJ13_hugeLength_2 : decode cJ13_hugeLength 2 = .ok (.iadd, 1) := dk_96 (dk_at dksJ13_hugeLength_0 2 rfl rfl)
theorem dJ13_hugeLength_3 : decode cJ13_hugeLength 3 = .ok (.istore_n 2, 1) := dk_61 (dk_at dksJ13_hugeLength_0 3 rfl rfl)
theorem dJ13_hugeLength_4 : decode cJ13_hugeLength 4 = .ok (.iload_n 2, 1) := dk_28 (dk_at dksJ13_hugeLength_0 4 rfl rfl)
theorem dJ13_hugeLength_5 : decode cJ13_hugeLength 5 = .ok (.ifCond .ge 44, 3) := dk_156 0 44 (dk_at dksJ13_hugeLength_0 5 rfl rfl)
theorem dJ13_hugeLength_8 : decode cJ13_hugeLength 8 = .ok (.new 204, 3) := dk_187 0 204 (dk_at dksJ13_hugeLength_0 8 rfl rfl)
theorem dJ13_hugeLength_11 : decode cJ13_hugeLength 11 = .ok (.dup, 1) := dk_89 (dk_at dksJ13_hugeLength_0 11 rfl rfl)
theorem dJ13_hugeLength_12 : decode cJ13_hugeLength 12 = .ok (.new 89, 3) := dk_187 0 89 (dk_at dksJ13_hugeLength_0 12 rfl rfl)
theorem dJ13_hugeLength_15 : decode cJ13_hugeLength 15 = .ok (.dup, 1) := dk_89 (dk_at dksJ13_hugeLength_0 15 rfl rfl)
theorem dJ13_hugeLength_16 : decode cJ13_hugeLength 16 = .ok (.invokespecial 91, 3) := dk_183 0 91 (dk_at dksJ13_hugeLength_0 16 rfl rfl)
theorem dJ13_hugeLength_19 : decode cJ13_hugeLength 19 = .ok (.ldc 206, 2) := dk_18 206 (dk_at dksJ13_hugeLength_0 19 rfl rfl)
theorem dJ13_hugeLength_21 : decode cJ13_hugeLength 21 = .ok (.invokevirtual 94, 3) := dk_182 0 94 (dk_at dksJ13_hugeLength_0 21 rfl rfl)
theorem dJ13_hugeLength_24 : decode cJ13_hugeLength 24 = .ok (.iload_n 0, 1) := dk_26 (dk_at dksJ13_hugeLength_1 0 rfl rfl)
theorem dJ13_hugeLength_25 : decode cJ13_hugeLength 25 = .ok (.invokevirtual 98, 3) := dk_182 0 98 (dk_at dksJ13_hugeLength_1 1 rfl rfl)
theorem dJ13_hugeLength_28 : decode cJ13_hugeLength 28 = .ok (.ldc 208, 2) := dk_18 208 (dk_at dksJ13_hugeLength_1 4 rfl rfl)
theorem dJ13_hugeLength_30 : decode cJ13_hugeLength 30 = .ok (.invokevirtual 94, 3) := dk_182 0 94 (dk_at dksJ13_hugeLength_1 6 rfl rfl)
theorem dJ13_hugeLength_33 : decode cJ13_hugeLength 33 = .ok (.iload_n 1, 1) := dk_27 (dk_at dksJ13_hugeLength_1 9 rfl rfl)
theorem dJ13_hugeLength_34 : decode cJ13_hugeLength 34 = .ok (.invokevirtual 98, 3) := dk_182 0 98 (dk_at dksJ13_hugeLength_1 10 rfl rfl)
theorem dJ13_hugeLength_37 : decode cJ13_hugeLength 37 = .ok (.ldc 210, 2) := dk_18 210 (dk_at dksJ13_hugeLength_1 13 rfl rfl)
theorem dJ13_hugeLength_39 : decode cJ13_hugeLength 39 = .ok (.invokevirtual 94, 3) := dk_182 0 94 (dk_at dksJ13_hugeLength_1 15 rfl rfl)
theorem dJ13_hugeLength_42 : decode cJ13_hugeLength 42 = .ok (.invokevirtual 101, 3) := dk_182 0 101 (dk_at dksJ13_hugeLength_1 18 rfl rfl)
theorem dJ13_hugeLength_45 : decode cJ13_hugeLength 45 = .ok (.invokespecial 212, 3) := dk_183 0 212 (dk_at dksJ13_hugeLength_1 21 rfl rfl)
theorem dJ13_hugeLength_48 : decode cJ13_hugeLength 48 = .ok (.athrow, 1) := dk_191 (dk_at dksJ13_hugeLength_2 0 rfl rfl)
theorem dJ13_hugeLength_49 : decode cJ13_hugeLength 49 = .ok (.iload_n 2, 1) := dk_28 (dk_at dksJ13_hugeLength_2 1 rfl rfl)
theorem dJ13_hugeLength_50 : decode cJ13_hugeLength 50 = .ok (.ldc 200, 2) := dk_18 200 (dk_at dksJ13_hugeLength_2 2 rfl rfl)
theorem dJ13_hugeLength_52 : decode cJ13_hugeLength 52 = .ok (.if_icmp .gt 6, 3) := dk_163 0 6 (dk_at dksJ13_hugeLength_2 4 rfl rfl)
theorem dJ13_hugeLength_55 : decode cJ13_hugeLength 55 = .ok (.ldc 200, 2) := dk_18 200 (dk_at dksJ13_hugeLength_2 7 rfl rfl)
theorem dJ13_hugeLength_57 : decode cJ13_hugeLength 57 = .ok (.ireturn, 1) := dk_172 (dk_at dksJ13_hugeLength_2 9 rfl rfl)
theorem dJ13_hugeLength_58 : decode cJ13_hugeLength 58 = .ok (.iload_n 2, 1) := dk_28 (dk_at dksJ13_hugeLength_2 10 rfl rfl)
theorem dJ13_hugeLength_59 : decode cJ13_hugeLength 59 = .ok (.ireturn, 1) := dk_172 (dk_at dksJ13_hugeLength_2 11 rfl rfl)
abbrev cJ13_vectorizedHashCode : ByteArray := prog_86_method_4_code
def yJ13_vectorizedHashCode : MethodName := ⟨RJ13, "vectorizedHashCode", "(Ljava/lang/Object;IIII)I"⟩
def dkwJ13_vectorizedHashCode_6 : List UInt8 := [183, 0, 91, 18, 92, 182, 0, 94, 21, 4, 182, 0, 98, 182, 0, 101, 183, 0, 105, 191, 172]
abbrev dktJ13_vectorizedHashCode_6 : List UInt8 := dkwJ13_vectorizedHashCode_6 ++ []
def dkwJ13_vectorizedHashCode_5 : List UInt8 := [167, 0, 44, 29, 42, 192, 0, 82, 27, 28, 184, 0, 84, 167, 0, 31, 187, 0, 87, 89, 187, 0, 89, 89]
abbrev dktJ13_vectorizedHashCode_5 : List UInt8 := dkwJ13_vectorizedHashCode_5 ++ dktJ13_vectorizedHashCode_6
def dkwJ13_vectorizedHashCode_4 : List UInt8 := [29, 42, 192, 0, 60, 27, 28, 184, 0, 75, 167, 0, 57, 29, 42, 192, 0, 77, 27, 28, 184, 0, 79]
abbrev dktJ13_vectorizedHashCode_4 : List UInt8 := dkwJ13_vectorizedHashCode_4 ++ dktJ13_vectorizedHashCode_5
def dkwJ13_vectorizedHashCode_3 : List UInt8 := [192, 0, 60, 27, 28, 184, 0, 66, 167, 0, 83, 29, 42, 192, 0, 69, 27, 28, 184, 0, 71, 167, 0, 70]
abbrev dktJ13_vectorizedHashCode_3 : List UInt8 := dkwJ13_vectorizedHashCode_3 ++ dktJ13_vectorizedHashCode_4
def dkwJ13_vectorizedHashCode_2 : List UInt8 := [29, 42, 192, 0, 60, 27, 28, 184, 0, 62, 167, 0, 103, 42, 193, 0, 60, 153, 0, 16, 29, 42]
abbrev dktJ13_vectorizedHashCode_2 : List UInt8 := dkwJ13_vectorizedHashCode_2 ++ dktJ13_vectorizedHashCode_3
def dkwJ13_vectorizedHashCode_1 : List UInt8 := [170, 0, 0, 0, 0, 127, 0, 0, 0, 4, 0, 0, 0, 10, 0, 0, 0, 42, 0, 0, 0, 55, 0, 0, 0, 127, 0, 0, 0, 127, 0, 0, 0, 88, 0, 0, 0, 101, 0, 0, 0, 114]
abbrev dktJ13_vectorizedHashCode_1 : List UInt8 := dkwJ13_vectorizedHashCode_1 ++ dktJ13_vectorizedHashCode_2
def dkwJ13_vectorizedHashCode_0 : List UInt8 := [21, 4]
abbrev dktJ13_vectorizedHashCode_0 : List UInt8 := dkwJ13_vectorizedHashCode_0 ++ dktJ13_vectorizedHashCode_1
theorem dksJ13_vectorizedHashCode_0 : cJ13_vectorizedHashCode.data.toList.drop 0 = dktJ13_vectorizedHashCode_0 := by decide +kernel
theorem dksJ13_vectorizedHashCode_1 : cJ13_vectorizedHashCode.data.toList.drop 2 = dktJ13_vectorizedHashCode_1 := dk_seg dksJ13_vectorizedHashCode_0 2 rfl rfl
theorem dksJ13_vectorizedHashCode_2 : cJ13_vectorizedHashCode.data.toList.drop 44 = dktJ13_vectorizedHashCode_2 := dk_seg dksJ13_vectorizedHashCode_1 42 rfl rfl
theorem dksJ13_vectorizedHashCode_3 : cJ13_vectorizedHashCode.data.toList.drop 66 = dktJ13_vectorizedHashCode_3 := dk_seg dksJ13_vectorizedHashCode_2 22 rfl rfl
theorem dksJ13_vectorizedHashCode_4 : cJ13_vectorizedHashCode.data.toList.drop 90 = dktJ13_vectorizedHashCode_4 := dk_seg dksJ13_vectorizedHashCode_3 24 rfl rfl
theorem dksJ13_vectorizedHashCode_5 : cJ13_vectorizedHashCode.data.toList.drop 113 = dktJ13_vectorizedHashCode_5 := dk_seg dksJ13_vectorizedHashCode_4 23 rfl rfl
theorem dksJ13_vectorizedHashCode_6 : cJ13_vectorizedHashCode.data.toList.drop 137 = dktJ13_vectorizedHashCode_6 := dk_seg dksJ13_vectorizedHashCode_5 24 rfl rfl
theorem dJ13_vectorizedHashCode_0 : decode cJ13_vectorizedHashCode 0 = .ok (.iload 4, 2) := dk_21 4 (dk_at dksJ13_vectorizedHashCode_0 0 rfl rfl)
theorem dJ13_vectorizedHashCode_2 : decode cJ13_vectorizedHashCode 2 = .ok (.tableswitch 127 4 10 #[42, 55, 127, 127, 88, 101, 114], 42) := by decide +kernel
theorem dJ13_vectorizedHashCode_44 : decode cJ13_vectorizedHashCode 44 = .ok (.iload_n 3, 1) := dk_29 (dk_at dksJ13_vectorizedHashCode_2 0 rfl rfl)
theorem dJ13_vectorizedHashCode_45 : decode cJ13_vectorizedHashCode 45 = .ok (.aload_n 0, 1) := dk_42 (dk_at dksJ13_vectorizedHashCode_2 1 rfl rfl)
theorem dJ13_vectorizedHashCode_46 : decode cJ13_vectorizedHashCode 46 = .ok (.checkcast 60, 3) := dk_192 0 60 (dk_at dksJ13_vectorizedHashCode_2 2 rfl rfl)
theorem dJ13_vectorizedHashCode_49 : decode cJ13_vectorizedHashCode 49 = .ok (.iload_n 1, 1) := dk_27 (dk_at dksJ13_vectorizedHashCode_2 5 rfl rfl)
theorem dJ13_vectorizedHashCode_50 : decode cJ13_vectorizedHashCode 50 = .ok (.iload_n 2, 1) := dk_28 (dk_at dksJ13_vectorizedHashCode_2 6 rfl rfl)
theorem dJ13_vectorizedHashCode_51 : decode cJ13_vectorizedHashCode 51 = .ok (.invokestatic 62, 3) := dk_184 0 62 (dk_at dksJ13_vectorizedHashCode_2 7 rfl rfl)
theorem dJ13_vectorizedHashCode_54 : decode cJ13_vectorizedHashCode 54 = .ok (.goto 103, 3) := dk_167 0 103 (dk_at dksJ13_vectorizedHashCode_2 10 rfl rfl)
theorem dJ13_vectorizedHashCode_57 : decode cJ13_vectorizedHashCode 57 = .ok (.aload_n 0, 1) := dk_42 (dk_at dksJ13_vectorizedHashCode_2 13 rfl rfl)
theorem dJ13_vectorizedHashCode_58 : decode cJ13_vectorizedHashCode 58 = .ok (.instanceof 60, 3) := dk_193 0 60 (dk_at dksJ13_vectorizedHashCode_2 14 rfl rfl)
theorem dJ13_vectorizedHashCode_61 : decode cJ13_vectorizedHashCode 61 = .ok (.ifCond .eq 16, 3) := dk_153 0 16 (dk_at dksJ13_vectorizedHashCode_2 17 rfl rfl)
theorem dJ13_vectorizedHashCode_64 : decode cJ13_vectorizedHashCode 64 = .ok (.iload_n 3, 1) := dk_29 (dk_at dksJ13_vectorizedHashCode_2 20 rfl rfl)
theorem dJ13_vectorizedHashCode_65 : decode cJ13_vectorizedHashCode 65 = .ok (.aload_n 0, 1) := dk_42 (dk_at dksJ13_vectorizedHashCode_2 21 rfl rfl)
theorem dJ13_vectorizedHashCode_66 : decode cJ13_vectorizedHashCode 66 = .ok (.checkcast 60, 3) := dk_192 0 60 (dk_at dksJ13_vectorizedHashCode_3 0 rfl rfl)
theorem dJ13_vectorizedHashCode_69 : decode cJ13_vectorizedHashCode 69 = .ok (.iload_n 1, 1) := dk_27 (dk_at dksJ13_vectorizedHashCode_3 3 rfl rfl)
theorem dJ13_vectorizedHashCode_70 : decode cJ13_vectorizedHashCode 70 = .ok (.iload_n 2, 1) := dk_28 (dk_at dksJ13_vectorizedHashCode_3 4 rfl rfl)
theorem dJ13_vectorizedHashCode_71 : decode cJ13_vectorizedHashCode 71 = .ok (.invokestatic 66, 3) := dk_184 0 66 (dk_at dksJ13_vectorizedHashCode_3 5 rfl rfl)
theorem dJ13_vectorizedHashCode_74 : decode cJ13_vectorizedHashCode 74 = .ok (.goto 83, 3) := dk_167 0 83 (dk_at dksJ13_vectorizedHashCode_3 8 rfl rfl)
theorem dJ13_vectorizedHashCode_77 : decode cJ13_vectorizedHashCode 77 = .ok (.iload_n 3, 1) := dk_29 (dk_at dksJ13_vectorizedHashCode_3 11 rfl rfl)
theorem dJ13_vectorizedHashCode_78 : decode cJ13_vectorizedHashCode 78 = .ok (.aload_n 0, 1) := dk_42 (dk_at dksJ13_vectorizedHashCode_3 12 rfl rfl)
theorem dJ13_vectorizedHashCode_79 : decode cJ13_vectorizedHashCode 79 = .ok (.checkcast 69, 3) := dk_192 0 69 (dk_at dksJ13_vectorizedHashCode_3 13 rfl rfl)
theorem dJ13_vectorizedHashCode_82 : decode cJ13_vectorizedHashCode 82 = .ok (.iload_n 1, 1) := dk_27 (dk_at dksJ13_vectorizedHashCode_3 16 rfl rfl)
theorem dJ13_vectorizedHashCode_83 : decode cJ13_vectorizedHashCode 83 = .ok (.iload_n 2, 1) := dk_28 (dk_at dksJ13_vectorizedHashCode_3 17 rfl rfl)
theorem dJ13_vectorizedHashCode_84 : decode cJ13_vectorizedHashCode 84 = .ok (.invokestatic 71, 3) := dk_184 0 71 (dk_at dksJ13_vectorizedHashCode_3 18 rfl rfl)
theorem dJ13_vectorizedHashCode_87 : decode cJ13_vectorizedHashCode 87 = .ok (.goto 70, 3) := dk_167 0 70 (dk_at dksJ13_vectorizedHashCode_3 21 rfl rfl)
theorem dJ13_vectorizedHashCode_90 : decode cJ13_vectorizedHashCode 90 = .ok (.iload_n 3, 1) := dk_29 (dk_at dksJ13_vectorizedHashCode_4 0 rfl rfl)
theorem dJ13_vectorizedHashCode_91 : decode cJ13_vectorizedHashCode 91 = .ok (.aload_n 0, 1) := dk_42 (dk_at dksJ13_vectorizedHashCode_4 1 rfl rfl)
theorem dJ13_vectorizedHashCode_92 : decode cJ13_vectorizedHashCode 92 = .ok (.checkcast 60, 3) := dk_192 0 60 (dk_at dksJ13_vectorizedHashCode_4 2 rfl rfl)
theorem dJ13_vectorizedHashCode_95 : decode cJ13_vectorizedHashCode 95 = .ok (.iload_n 1, 1) := dk_27 (dk_at dksJ13_vectorizedHashCode_4 5 rfl rfl)
theorem dJ13_vectorizedHashCode_96 : decode cJ13_vectorizedHashCode 96 = .ok (.iload_n 2, 1) := dk_28 (dk_at dksJ13_vectorizedHashCode_4 6 rfl rfl)
theorem dJ13_vectorizedHashCode_97 : decode cJ13_vectorizedHashCode 97 = .ok (.invokestatic 75, 3) := dk_184 0 75 (dk_at dksJ13_vectorizedHashCode_4 7 rfl rfl)
theorem dJ13_vectorizedHashCode_100 : decode cJ13_vectorizedHashCode 100 = .ok (.goto 57, 3) := dk_167 0 57 (dk_at dksJ13_vectorizedHashCode_4 10 rfl rfl)
theorem dJ13_vectorizedHashCode_103 : decode cJ13_vectorizedHashCode 103 = .ok (.iload_n 3, 1) := dk_29 (dk_at dksJ13_vectorizedHashCode_4 13 rfl rfl)
theorem dJ13_vectorizedHashCode_104 : decode cJ13_vectorizedHashCode 104 = .ok (.aload_n 0, 1) := dk_42 (dk_at dksJ13_vectorizedHashCode_4 14 rfl rfl)
theorem dJ13_vectorizedHashCode_105 : decode cJ13_vectorizedHashCode 105 = .ok (.checkcast 77, 3) := dk_192 0 77 (dk_at dksJ13_vectorizedHashCode_4 15 rfl rfl)
theorem dJ13_vectorizedHashCode_108 : decode cJ13_vectorizedHashCode 108 = .ok (.iload_n 1, 1) := dk_27 (dk_at dksJ13_vectorizedHashCode_4 18 rfl rfl)
theorem dJ13_vectorizedHashCode_109 : decode cJ13_vectorizedHashCode 109 = .ok (.iload_n 2, 1) := dk_28 (dk_at dksJ13_vectorizedHashCode_4 19 rfl rfl)
theorem dJ13_vectorizedHashCode_110 : decode cJ13_vectorizedHashCode 110 = .ok (.invokestatic 79, 3) := dk_184 0 79 (dk_at dksJ13_vectorizedHashCode_4 20 rfl rfl)
theorem dJ13_vectorizedHashCode_113 : decode cJ13_vectorizedHashCode 113 = .ok (.goto 44, 3) := dk_167 0 44 (dk_at dksJ13_vectorizedHashCode_5 0 rfl rfl)
theorem dJ13_vectorizedHashCode_116 : decode cJ13_vectorizedHashCode 116 = .ok (.iload_n 3, 1) := dk_29 (dk_at dksJ13_vectorizedHashCode_5 3 rfl rfl)
theorem dJ13_vectorizedHashCode_117 : decode cJ13_vectorizedHashCode 117 = .ok (.aload_n 0, 1) := dk_42 (dk_at dksJ13_vectorizedHashCode_5 4 rfl rfl)
theorem dJ13_vectorizedHashCode_118 : decode cJ13_vectorizedHashCode 118 = .ok (.checkcast 82, 3) := dk_192 0 82 (dk_at dksJ13_vectorizedHashCode_5 5 rfl rfl)
theorem dJ13_vectorizedHashCode_121 : decode cJ13_vectorizedHashCode 121 = .ok (.iload_n 1, 1) := dk_27 (dk_at dksJ13_vectorizedHashCode_5 8 rfl rfl)
theorem dJ13_vectorizedHashCode_122 : decode cJ13_vectorizedHashCode 122 = .ok (.iload_n 2, 1) := dk_28 (dk_at dksJ13_vectorizedHashCode_5 9 rfl rfl)
theorem dJ13_vectorizedHashCode_123 : decode cJ13_vectorizedHashCode 123 = .ok (.invokestatic 84, 3) := dk_184 0 84 (dk_at dksJ13_vectorizedHashCode_5 10 rfl rfl)
theorem dJ13_vectorizedHashCode_126 : decode cJ13_vectorizedHashCode 126 = .ok (.goto 31, 3) := dk_167 0 31 (dk_at dksJ13_vectorizedHashCode_5 13 rfl rfl)
theorem dJ13_vectorizedHashCode_129 : decode cJ13_vectorizedHashCode 129 = .ok (.new 87, 3) := dk_187 0 87 (dk_at dksJ13_vectorizedHashCode_5 16 rfl rfl)
theorem dJ13_vectorizedHashCode_132 : decode cJ13_vectorizedHashCode 132 = .ok (.dup, 1) := dk_89 (dk_at dksJ13_vectorizedHashCode_5 19 rfl rfl)
theorem dJ13_vectorizedHashCode_133 : decode cJ13_vectorizedHashCode 133 = .ok (.new 89, 3) := dk_187 0 89 (dk_at dksJ13_vectorizedHashCode_5 20 rfl rfl)
theorem dJ13_vectorizedHashCode_136 : decode cJ13_vectorizedHashCode 136 = .ok (.dup, 1) := dk_89 (dk_at dksJ13_vectorizedHashCode_5 23 rfl rfl)
theorem dJ13_vectorizedHashCode_137 : decode cJ13_vectorizedHashCode 137 = .ok (.invokespecial 91, 3) := dk_183 0 91 (dk_at dksJ13_vectorizedHashCode_6 0 rfl rfl)
theorem dJ13_vectorizedHashCode_140 : decode cJ13_vectorizedHashCode 140 = .ok (.ldc 92, 2) := dk_18 92 (dk_at dksJ13_vectorizedHashCode_6 3 rfl rfl)
theorem dJ13_vectorizedHashCode_142 : decode cJ13_vectorizedHashCode 142 = .ok (.invokevirtual 94, 3) := dk_182 0 94 (dk_at dksJ13_vectorizedHashCode_6 5 rfl rfl)
theorem dJ13_vectorizedHashCode_145 : decode cJ13_vectorizedHashCode 145 = .ok (.iload 4, 2) := dk_21 4 (dk_at dksJ13_vectorizedHashCode_6 8 rfl rfl)
theorem dJ13_vectorizedHashCode_147 : decode cJ13_vectorizedHashCode 147 = .ok (.invokevirtual 98, 3) := dk_182 0 98 (dk_at dksJ13_vectorizedHashCode_6 10 rfl rfl)
theorem dJ13_vectorizedHashCode_150 : decode cJ13_vectorizedHashCode 150 = .ok (.invokevirtual 101, 3) := dk_182 0 101 (dk_at dksJ13_vectorizedHashCode_6 13 rfl rfl)
theorem dJ13_vectorizedHashCode_153 : decode cJ13_vectorizedHashCode 153 = .ok (.invokespecial 105, 3) := dk_183 0 105 (dk_at dksJ13_vectorizedHashCode_6 16 rfl rfl)
theorem dJ13_vectorizedHashCode_156 : decode cJ13_vectorizedHashCode 156 = .ok (.athrow, 1) := dk_191 (dk_at dksJ13_vectorizedHashCode_6 19 rfl rfl)
theorem dJ13_vectorizedHashCode_157 : decode cJ13_vectorizedHashCode 157 = .ok (.ireturn, 1) := dk_172 (dk_at dksJ13_vectorizedHashCode_6 20 rfl rfl)
abbrev cJ13_signedHashCode : ByteArray := prog_86_method_5_code
def yJ13_signedHashCode : MethodName := ⟨RJ13, "signedHashCode", "(I[BII)I"⟩
def dkwJ13_signedHashCode_1 : List UInt8 := [17, 0, 255, 126, 96, 59, 132, 5, 1, 167, 255, 232, 26, 172]
abbrev dktJ13_signedHashCode_1 : List UInt8 := dkwJ13_signedHashCode_1 ++ []
def dkwJ13_signedHashCode_0 : List UInt8 := [28, 29, 96, 54, 4, 28, 54, 5, 21, 5, 21, 4, 162, 0, 23, 16, 31, 26, 104, 43, 21, 5, 51]
abbrev dktJ13_signedHashCode_0 : List UInt8 := dkwJ13_signedHashCode_0 ++ dktJ13_signedHashCode_1
theorem dksJ13_signedHashCode_0 : cJ13_signedHashCode.data.toList.drop 0 = dktJ13_signedHashCode_0 := by decide +kernel
theorem dksJ13_signedHashCode_1 : cJ13_signedHashCode.data.toList.drop 23 = dktJ13_signedHashCode_1 := dk_seg dksJ13_signedHashCode_0 23 rfl rfl
theorem dJ13_signedHashCode_0 : decode cJ13_signedHashCode 0 = .ok (.iload_n 2, 1) := dk_28 (dk_at dksJ13_signedHashCode_0 0 rfl rfl)
theorem dJ13_signedHashCode_1 : decode cJ13_signedHashCode 1 = .ok (.iload_n 3, 1) := dk_29 (dk_at dksJ13_signedHashCode_0 1 rfl rfl)
theorem dJ13_signedHashCode_2 : decode cJ13_signedHashCode 2 = .ok (.iadd, 1) := dk_96 (dk_at dksJ13_signedHashCode_0 2 rfl rfl)
theorem dJ13_signedHashCode_3 : decode cJ13_signedHashCode 3 = .ok (.istore 4, 2) := dk_54 4 (dk_at dksJ13_signedHashCode_0 3 rfl rfl)
theorem dJ13_signedHashCode_5 : decode cJ13_signedHashCode 5 = .ok (.iload_n 2, 1) := dk_28 (dk_at dksJ13_signedHashCode_0 5 rfl rfl)
theorem dJ13_signedHashCode_6 : decode cJ13_signedHashCode 6 = .ok (.istore 5, 2) := dk_54 5 (dk_at dksJ13_signedHashCode_0 6 rfl rfl)
theorem dJ13_signedHashCode_8 : decode cJ13_signedHashCode 8 = .ok (.iload 5, 2) := dk_21 5 (dk_at dksJ13_signedHashCode_0 8 rfl rfl)
theorem dJ13_signedHashCode_10 : decode cJ13_signedHashCode 10 = .ok (.iload 4, 2) := dk_21 4 (dk_at dksJ13_signedHashCode_0 10 rfl rfl)
theorem dJ13_signedHashCode_12 : decode cJ13_signedHashCode 12 = .ok (.if_icmp .ge 23, 3) := dk_162 0 23 (dk_at dksJ13_signedHashCode_0 12 rfl rfl)
theorem dJ13_signedHashCode_15 : decode cJ13_signedHashCode 15 = .ok (.bipush 31, 2) := dk_16 31 (dk_at dksJ13_signedHashCode_0 15 rfl rfl)
theorem dJ13_signedHashCode_17 : decode cJ13_signedHashCode 17 = .ok (.iload_n 0, 1) := dk_26 (dk_at dksJ13_signedHashCode_0 17 rfl rfl)
theorem dJ13_signedHashCode_18 : decode cJ13_signedHashCode 18 = .ok (.imul, 1) := dk_104 (dk_at dksJ13_signedHashCode_0 18 rfl rfl)
theorem dJ13_signedHashCode_19 : decode cJ13_signedHashCode 19 = .ok (.aload_n 1, 1) := dk_43 (dk_at dksJ13_signedHashCode_0 19 rfl rfl)
theorem dJ13_signedHashCode_20 : decode cJ13_signedHashCode 20 = .ok (.iload 5, 2) := dk_21 5 (dk_at dksJ13_signedHashCode_0 20 rfl rfl)
theorem dJ13_signedHashCode_22 : decode cJ13_signedHashCode 22 = .ok (.baload, 1) := dk_51 (dk_at dksJ13_signedHashCode_0 22 rfl rfl)
theorem dJ13_signedHashCode_23 : decode cJ13_signedHashCode 23 = .ok (.sipush 255, 3) := dk_17 0 255 (dk_at dksJ13_signedHashCode_1 0 rfl rfl)
theorem dJ13_signedHashCode_26 : decode cJ13_signedHashCode 26 = .ok (.iand, 1) := dk_126 (dk_at dksJ13_signedHashCode_1 3 rfl rfl)
theorem dJ13_signedHashCode_27 : decode cJ13_signedHashCode 27 = .ok (.iadd, 1) := dk_96 (dk_at dksJ13_signedHashCode_1 4 rfl rfl)
theorem dJ13_signedHashCode_28 : decode cJ13_signedHashCode 28 = .ok (.istore_n 0, 1) := dk_59 (dk_at dksJ13_signedHashCode_1 5 rfl rfl)
theorem dJ13_signedHashCode_29 : decode cJ13_signedHashCode 29 = .ok (.iinc 5 1, 3) := dk_132 5 1 (dk_at dksJ13_signedHashCode_1 6 rfl rfl)
theorem dJ13_signedHashCode_32 : decode cJ13_signedHashCode 32 = .ok (.goto (-24), 3) := dk_167 255 232 (dk_at dksJ13_signedHashCode_1 9 rfl rfl)
theorem dJ13_signedHashCode_35 : decode cJ13_signedHashCode 35 = .ok (.iload_n 0, 1) := dk_26 (dk_at dksJ13_signedHashCode_1 12 rfl rfl)
theorem dJ13_signedHashCode_36 : decode cJ13_signedHashCode 36 = .ok (.ireturn, 1) := dk_172 (dk_at dksJ13_signedHashCode_1 13 rfl rfl)
abbrev cJ13_utf16hashCode : ByteArray := prog_86_method_10_code
def yJ13_utf16hashCode : MethodName := ⟨RJ13, "utf16hashCode", "(I[BII)I"⟩
def dkwJ13_utf16hashCode_1 : List UInt8 := [21, 5, 185, 0, 110, 3, 0, 96, 59, 132, 5, 1, 167, 255, 229, 26, 172]
abbrev dktJ13_utf16hashCode_1 : List UInt8 := dkwJ13_utf16hashCode_1 ++ []
def dkwJ13_utf16hashCode_0 : List UInt8 := [28, 29, 96, 54, 4, 28, 54, 5, 21, 5, 21, 4, 162, 0, 26, 16, 31, 26, 104, 178, 0, 106, 43]
abbrev dktJ13_utf16hashCode_0 : List UInt8 := dkwJ13_utf16hashCode_0 ++ dktJ13_utf16hashCode_1
theorem dksJ13_utf16hashCode_0 : cJ13_utf16hashCode.data.toList.drop 0 = dktJ13_utf16hashCode_0 := by decide +kernel
theorem dksJ13_utf16hashCode_1 : cJ13_utf16hashCode.data.toList.drop 23 = dktJ13_utf16hashCode_1 := dk_seg dksJ13_utf16hashCode_0 23 rfl rfl
theorem dJ13_utf16hashCode_0 : decode cJ13_utf16hashCode 0 = .ok (.iload_n 2, 1) := dk_28 (dk_at dksJ13_utf16hashCode_0 0 rfl rfl)
theorem dJ13_utf16hashCode_1 : decode cJ13_utf16hashCode 1 = .ok (.iload_n 3, 1) := dk_29 (dk_at dksJ13_utf16hashCode_0 1 rfl rfl)
theorem dJ13_utf16hashCode_2 : decode cJ13_utf16hashCode 2 = .ok (.iadd, 1) := dk_96 (dk_at dksJ13_utf16hashCode_0 2 rfl rfl)
theorem dJ13_utf16hashCode_3 : decode cJ13_utf16hashCode 3 = .ok (.istore 4, 2) := dk_54 4 (dk_at dksJ13_utf16hashCode_0 3 rfl rfl)
theorem dJ13_utf16hashCode_5 : decode cJ13_utf16hashCode 5 = .ok (.iload_n 2, 1) := dk_28 (dk_at dksJ13_utf16hashCode_0 5 rfl rfl)
theorem dJ13_utf16hashCode_6 : decode cJ13_utf16hashCode 6 = .ok (.istore 5, 2) := dk_54 5 (dk_at dksJ13_utf16hashCode_0 6 rfl rfl)
theorem dJ13_utf16hashCode_8 : decode cJ13_utf16hashCode 8 = .ok (.iload 5, 2) := dk_21 5 (dk_at dksJ13_utf16hashCode_0 8 rfl rfl)
theorem dJ13_utf16hashCode_10 : decode cJ13_utf16hashCode 10 = .ok (.iload 4, 2) := dk_21 4 (dk_at dksJ13_utf16hashCode_0 10 rfl rfl)
theorem dJ13_utf16hashCode_12 : decode cJ13_utf16hashCode 12 = .ok (.if_icmp .ge 26, 3) := dk_162 0 26 (dk_at dksJ13_utf16hashCode_0 12 rfl rfl)
theorem dJ13_utf16hashCode_15 : decode cJ13_utf16hashCode 15 = .ok (.bipush 31, 2) := dk_16 31 (dk_at dksJ13_utf16hashCode_0 15 rfl rfl)
theorem dJ13_utf16hashCode_17 : decode cJ13_utf16hashCode 17 = .ok (.iload_n 0, 1) := dk_26 (dk_at dksJ13_utf16hashCode_0 17 rfl rfl)
theorem dJ13_utf16hashCode_18 : decode cJ13_utf16hashCode 18 = .ok (.imul, 1) := dk_104 (dk_at dksJ13_utf16hashCode_0 18 rfl rfl)
theorem dJ13_utf16hashCode_19 : decode cJ13_utf16hashCode 19 = .ok (.getstatic 106, 3) := dk_178 0 106 (dk_at dksJ13_utf16hashCode_0 19 rfl rfl)
theorem dJ13_utf16hashCode_22 : decode cJ13_utf16hashCode 22 = .ok (.aload_n 1, 1) := dk_43 (dk_at dksJ13_utf16hashCode_0 22 rfl rfl)
theorem dJ13_utf16hashCode_23 : decode cJ13_utf16hashCode 23 = .ok (.iload 5, 2) := dk_21 5 (dk_at dksJ13_utf16hashCode_1 0 rfl rfl)
theorem dJ13_utf16hashCode_25 : decode cJ13_utf16hashCode 25 = .ok (.invokeinterface 110 3, 5) := by decide +kernel
theorem dJ13_utf16hashCode_30 : decode cJ13_utf16hashCode 30 = .ok (.iadd, 1) := dk_96 (dk_at dksJ13_utf16hashCode_1 7 rfl rfl)
theorem dJ13_utf16hashCode_31 : decode cJ13_utf16hashCode 31 = .ok (.istore_n 0, 1) := dk_59 (dk_at dksJ13_utf16hashCode_1 8 rfl rfl)
theorem dJ13_utf16hashCode_32 : decode cJ13_utf16hashCode 32 = .ok (.iinc 5 1, 3) := dk_132 5 1 (dk_at dksJ13_utf16hashCode_1 9 rfl rfl)
theorem dJ13_utf16hashCode_35 : decode cJ13_utf16hashCode 35 = .ok (.goto (-27), 3) := dk_167 255 229 (dk_at dksJ13_utf16hashCode_1 12 rfl rfl)
theorem dJ13_utf16hashCode_38 : decode cJ13_utf16hashCode 38 = .ok (.iload_n 0, 1) := dk_26 (dk_at dksJ13_utf16hashCode_1 15 rfl rfl)
theorem dJ13_utf16hashCode_39 : decode cJ13_utf16hashCode 39 = .ok (.ireturn, 1) := dk_172 (dk_at dksJ13_utf16hashCode_1 16 rfl rfl)
abbrev cJ13_hashCode : ByteArray := prog_86_method_7_code
def yJ13_hashCode : MethodName := ⟨RJ13, "hashCode", "(I[CII)I"⟩
def dkwJ13_hashCode_1 : List UInt8 := [59, 132, 5, 1, 167, 255, 236, 26, 172]
abbrev dktJ13_hashCode_1 : List UInt8 := dkwJ13_hashCode_1 ++ []
def dkwJ13_hashCode_0 : List UInt8 := [28, 29, 96, 54, 4, 28, 54, 5, 21, 5, 21, 4, 162, 0, 19, 16, 31, 26, 104, 43, 21, 5, 52, 96]
abbrev dktJ13_hashCode_0 : List UInt8 := dkwJ13_hashCode_0 ++ dktJ13_hashCode_1
theorem dksJ13_hashCode_0 : cJ13_hashCode.data.toList.drop 0 = dktJ13_hashCode_0 := by decide +kernel
theorem dksJ13_hashCode_1 : cJ13_hashCode.data.toList.drop 24 = dktJ13_hashCode_1 := dk_seg dksJ13_hashCode_0 24 rfl rfl
theorem dJ13_hashCode_0 : decode cJ13_hashCode 0 = .ok (.iload_n 2, 1) := dk_28 (dk_at dksJ13_hashCode_0 0 rfl rfl)
theorem dJ13_hashCode_1 : decode cJ13_hashCode 1 = .ok (.iload_n 3, 1) := dk_29 (dk_at dksJ13_hashCode_0 1 rfl rfl)
theorem dJ13_hashCode_2 : decode cJ13_hashCode 2 = .ok (.iadd, 1) := dk_96 (dk_at dksJ13_hashCode_0 2 rfl rfl)
theorem dJ13_hashCode_3 : decode cJ13_hashCode 3 = .ok (.istore 4, 2) := dk_54 4 (dk_at dksJ13_hashCode_0 3 rfl rfl)
theorem dJ13_hashCode_5 : decode cJ13_hashCode 5 = .ok (.iload_n 2, 1) := dk_28 (dk_at dksJ13_hashCode_0 5 rfl rfl)
theorem dJ13_hashCode_6 : decode cJ13_hashCode 6 = .ok (.istore 5, 2) := dk_54 5 (dk_at dksJ13_hashCode_0 6 rfl rfl)
theorem dJ13_hashCode_8 : decode cJ13_hashCode 8 = .ok (.iload 5, 2) := dk_21 5 (dk_at dksJ13_hashCode_0 8 rfl rfl)
theorem dJ13_hashCode_10 : decode cJ13_hashCode 10 = .ok (.iload 4, 2) := dk_21 4 (dk_at dksJ13_hashCode_0 10 rfl rfl)
theorem dJ13_hashCode_12 : decode cJ13_hashCode 12 = .ok (.if_icmp .ge 19, 3) := dk_162 0 19 (dk_at dksJ13_hashCode_0 12 rfl rfl)
theorem dJ13_hashCode_15 : decode cJ13_hashCode 15 = .ok (.bipush 31, 2) := dk_16 31 (dk_at dksJ13_hashCode_0 15 rfl rfl)
theorem dJ13_hashCode_17 : decode cJ13_hashCode 17 = .ok (.iload_n 0, 1) := dk_26 (dk_at dksJ13_hashCode_0 17 rfl rfl)
theorem dJ13_hashCode_18 : decode cJ13_hashCode 18 = .ok (.imul, 1) := dk_104 (dk_at dksJ13_hashCode_0 18 rfl rfl)
theorem dJ13_hashCode_19 : decode cJ13_hashCode 19 = .ok (.aload_n 1, 1) := dk_43 (dk_at dksJ13_hashCode_0 19 rfl rfl)
theorem dJ13_hashCode_20 : decode cJ13_hashCode 20 = .ok (.iload 5, 2) := dk_21 5 (dk_at dksJ13_hashCode_0 20 rfl rfl)
theorem dJ13_hashCode_22 : decode cJ13_hashCode 22 = .ok (.caload, 1) := dk_52 (dk_at dksJ13_hashCode_0 22 rfl rfl)
theorem dJ13_hashCode_23 : decode cJ13_hashCode 23 = .ok (.iadd, 1) := dk_96 (dk_at dksJ13_hashCode_0 23 rfl rfl)
theorem dJ13_hashCode_24 : decode cJ13_hashCode 24 = .ok (.istore_n 0, 1) := dk_59 (dk_at dksJ13_hashCode_1 0 rfl rfl)
theorem dJ13_hashCode_25 : decode cJ13_hashCode 25 = .ok (.iinc 5 1, 3) := dk_132 5 1 (dk_at dksJ13_hashCode_1 1 rfl rfl)
theorem dJ13_hashCode_28 : decode cJ13_hashCode 28 = .ok (.goto (-20), 3) := dk_167 255 236 (dk_at dksJ13_hashCode_1 4 rfl rfl)
theorem dJ13_hashCode_31 : decode cJ13_hashCode 31 = .ok (.iload_n 0, 1) := dk_26 (dk_at dksJ13_hashCode_1 7 rfl rfl)
theorem dJ13_hashCode_32 : decode cJ13_hashCode 32 = .ok (.ireturn, 1) := dk_172 (dk_at dksJ13_hashCode_1 8 rfl rfl)
abbrev cJ13_hashCode_2 : ByteArray := prog_86_method_6_code
def yJ13_hashCode_2 : MethodName := ⟨RJ13, "hashCode", "(I[BII)I"⟩
def dkwJ13_hashCode_2_1 : List UInt8 := [59, 132, 5, 1, 167, 255, 236, 26, 172]
abbrev dktJ13_hashCode_2_1 : List UInt8 := dkwJ13_hashCode_2_1 ++ []
def dkwJ13_hashCode_2_0 : List UInt8 := [28, 29, 96, 54, 4, 28, 54, 5, 21, 5, 21, 4, 162, 0, 19, 16, 31, 26, 104, 43, 21, 5, 51, 96]
abbrev dktJ13_hashCode_2_0 : List UInt8 := dkwJ13_hashCode_2_0 ++ dktJ13_hashCode_2_1
theorem dksJ13_hashCode_2_0 : cJ13_hashCode_2.data.toList.drop 0 = dktJ13_hashCode_2_0 := by decide +kernel
theorem dksJ13_hashCode_2_1 : cJ13_hashCode_2.data.toList.drop 24 = dktJ13_hashCode_2_1 := dk_seg dksJ13_hashCode_2_0 24 rfl rfl
theorem dJ13_hashCode_2_0 : decode cJ13_hashCode_2 0 = .ok (.iload_n 2, 1) := dk_28 (dk_at dksJ13_hashCode_2_0 0 rfl rfl)
theorem dJ13_hashCode_2_1 : decode cJ13_hashCode_2 1 = .ok (.iload_n 3, 1) := dk_29 (dk_at dksJ13_hashCode_2_0 1 rfl rfl)
theorem dJ13_hashCode_2_2 : decode cJ13_hashCode_2 2 = .ok (.iadd, 1) := dk_96 (dk_at dksJ13_hashCode_2_0 2 rfl rfl)
theorem dJ13_hashCode_2_3 : decode cJ13_hashCode_2 3 = .ok (.istore 4, 2) := dk_54 4 (dk_at dksJ13_hashCode_2_0 3 rfl rfl)
theorem dJ13_hashCode_2_5 : decode cJ13_hashCode_2 5 = .ok (.iload_n 2, 1) := dk_28 (dk_at dksJ13_hashCode_2_0 5 rfl rfl)
theorem dJ13_hashCode_2_6 : decode cJ13_hashCode_2 6 = .ok (.istore 5, 2) := dk_54 5 (dk_at dksJ13_hashCode_2_0 6 rfl rfl)
theorem dJ13_hashCode_2_8 : decode cJ13_hashCode_2 8 = .ok (.iload 5, 2) := dk_21 5 (dk_at dksJ13_hashCode_2_0 8 rfl rfl)
theorem dJ13_hashCode_2_10 : decode cJ13_hashCode_2 10 = .ok (.iload 4, 2) := dk_21 4 (dk_at dksJ13_hashCode_2_0 10 rfl rfl)
theorem dJ13_hashCode_2_12 : decode cJ13_hashCode_2 12 = .ok (.if_icmp .ge 19, 3) := dk_162 0 19 (dk_at dksJ13_hashCode_2_0 12 rfl rfl)
theorem dJ13_hashCode_2_15 : decode cJ13_hashCode_2 15 = .ok (.bipush 31, 2) := dk_16 31 (dk_at dksJ13_hashCode_2_0 15 rfl rfl)
theorem dJ13_hashCode_2_17 : decode cJ13_hashCode_2 17 = .ok (.iload_n 0, 1) := dk_26 (dk_at dksJ13_hashCode_2_0 17 rfl rfl)
theorem dJ13_hashCode_2_18 : decode cJ13_hashCode_2 18 = .ok (.imul, 1) := dk_104 (dk_at dksJ13_hashCode_2_0 18 rfl rfl)
theorem dJ13_hashCode_2_19 : decode cJ13_hashCode_2 19 = .ok (.aload_n 1, 1) := dk_43 (dk_at dksJ13_hashCode_2_0 19 rfl rfl)
theorem dJ13_hashCode_2_20 : decode cJ13_hashCode_2 20 = .ok (.iload 5, 2) := dk_21 5 (dk_at dksJ13_hashCode_2_0 20 rfl rfl)
theorem dJ13_hashCode_2_22 : decode cJ13_hashCode_2 22 = .ok (.baload, 1) := dk_51 (dk_at dksJ13_hashCode_2_0 22 rfl rfl)
theorem dJ13_hashCode_2_23 : decode cJ13_hashCode_2 23 = .ok (.iadd, 1) := dk_96 (dk_at dksJ13_hashCode_2_0 23 rfl rfl)
theorem dJ13_hashCode_2_24 : decode cJ13_hashCode_2 24 = .ok (.istore_n 0, 1) := dk_59 (dk_at dksJ13_hashCode_2_1 0 rfl rfl)
theorem dJ13_hashCode_2_25 : decode cJ13_hashCode_2 25 = .ok (.iinc 5 1, 3) := dk_132 5 1 (dk_at dksJ13_hashCode_2_1 1 rfl rfl)
theorem dJ13_hashCode_2_28 : decode cJ13_hashCode_2 28 = .ok (.goto (-20), 3) := dk_167 255 236 (dk_at dksJ13_hashCode_2_1 4 rfl rfl)
theorem dJ13_hashCode_2_31 : decode cJ13_hashCode_2 31 = .ok (.iload_n 0, 1) := dk_26 (dk_at dksJ13_hashCode_2_1 7 rfl rfl)
theorem dJ13_hashCode_2_32 : decode cJ13_hashCode_2 32 = .ok (.ireturn, 1) := dk_172 (dk_at dksJ13_hashCode_2_1 8 rfl rfl)
abbrev cJ13_hashCode_3 : ByteArray := prog_86_method_8_code
def yJ13_hashCode_3 : MethodName := ⟨RJ13, "hashCode", "(I[SII)I"⟩
def dkwJ13_hashCode_3_1 : List UInt8 := [59, 132, 5, 1, 167, 255, 236, 26, 172]
abbrev dktJ13_hashCode_3_1 : List UInt8 := dkwJ13_hashCode_3_1 ++ []
def dkwJ13_hashCode_3_0 : List UInt8 := [28, 29, 96, 54, 4, 28, 54, 5, 21, 5, 21, 4, 162, 0, 19, 16, 31, 26, 104, 43, 21, 5, 53, 96]
abbrev dktJ13_hashCode_3_0 : List UInt8 := dkwJ13_hashCode_3_0 ++ dktJ13_hashCode_3_1
theorem dksJ13_hashCode_3_0 : cJ13_hashCode_3.data.toList.drop 0 = dktJ13_hashCode_3_0 := by decide +kernel
theorem dksJ13_hashCode_3_1 : cJ13_hashCode_3.data.toList.drop 24 = dktJ13_hashCode_3_1 := dk_seg dksJ13_hashCode_3_0 24 rfl rfl
theorem dJ13_hashCode_3_0 : decode cJ13_hashCode_3 0 = .ok (.iload_n 2, 1) := dk_28 (dk_at dksJ13_hashCode_3_0 0 rfl rfl)
theorem dJ13_hashCode_3_1 : decode cJ13_hashCode_3 1 = .ok (.iload_n 3, 1) := dk_29 (dk_at dksJ13_hashCode_3_0 1 rfl rfl)
theorem dJ13_hashCode_3_2 : decode cJ13_hashCode_3 2 = .ok (.iadd, 1) := dk_96 (dk_at dksJ13_hashCode_3_0 2 rfl rfl)
theorem dJ13_hashCode_3_3 : decode cJ13_hashCode_3 3 = .ok (.istore 4, 2) := dk_54 4 (dk_at dksJ13_hashCode_3_0 3 rfl rfl)
theorem dJ13_hashCode_3_5 : decode cJ13_hashCode_3 5 = .ok (.iload_n 2, 1) := dk_28 (dk_at dksJ13_hashCode_3_0 5 rfl rfl)
theorem dJ13_hashCode_3_6 : decode cJ13_hashCode_3 6 = .ok (.istore 5, 2) := dk_54 5 (dk_at dksJ13_hashCode_3_0 6 rfl rfl)
theorem dJ13_hashCode_3_8 : decode cJ13_hashCode_3 8 = .ok (.iload 5, 2) := dk_21 5 (dk_at dksJ13_hashCode_3_0 8 rfl rfl)
theorem dJ13_hashCode_3_10 : decode cJ13_hashCode_3 10 = .ok (.iload 4, 2) := dk_21 4 (dk_at dksJ13_hashCode_3_0 10 rfl rfl)
theorem dJ13_hashCode_3_12 : decode cJ13_hashCode_3 12 = .ok (.if_icmp .ge 19, 3) := dk_162 0 19 (dk_at dksJ13_hashCode_3_0 12 rfl rfl)
theorem dJ13_hashCode_3_15 : decode cJ13_hashCode_3 15 = .ok (.bipush 31, 2) := dk_16 31 (dk_at dksJ13_hashCode_3_0 15 rfl rfl)
theorem dJ13_hashCode_3_17 : decode cJ13_hashCode_3 17 = .ok (.iload_n 0, 1) := dk_26 (dk_at dksJ13_hashCode_3_0 17 rfl rfl)
theorem dJ13_hashCode_3_18 : decode cJ13_hashCode_3 18 = .ok (.imul, 1) := dk_104 (dk_at dksJ13_hashCode_3_0 18 rfl rfl)
theorem dJ13_hashCode_3_19 : decode cJ13_hashCode_3 19 = .ok (.aload_n 1, 1) := dk_43 (dk_at dksJ13_hashCode_3_0 19 rfl rfl)
theorem dJ13_hashCode_3_20 : decode cJ13_hashCode_3 20 = .ok (.iload 5, 2) := dk_21 5 (dk_at dksJ13_hashCode_3_0 20 rfl rfl)
theorem dJ13_hashCode_3_22 : decode cJ13_hashCode_3 22 = .ok (.saload, 1) := dk_53 (dk_at dksJ13_hashCode_3_0 22 rfl rfl)
theorem dJ13_hashCode_3_23 : decode cJ13_hashCode_3 23 = .ok (.iadd, 1) := dk_96 (dk_at dksJ13_hashCode_3_0 23 rfl rfl)
theorem dJ13_hashCode_3_24 : decode cJ13_hashCode_3 24 = .ok (.istore_n 0, 1) := dk_59 (dk_at dksJ13_hashCode_3_1 0 rfl rfl)
theorem dJ13_hashCode_3_25 : decode cJ13_hashCode_3 25 = .ok (.iinc 5 1, 3) := dk_132 5 1 (dk_at dksJ13_hashCode_3_1 1 rfl rfl)
theorem dJ13_hashCode_3_28 : decode cJ13_hashCode_3 28 = .ok (.goto (-20), 3) := dk_167 255 236 (dk_at dksJ13_hashCode_3_1 4 rfl rfl)
theorem dJ13_hashCode_3_31 : decode cJ13_hashCode_3 31 = .ok (.iload_n 0, 1) := dk_26 (dk_at dksJ13_hashCode_3_1 7 rfl rfl)
theorem dJ13_hashCode_3_32 : decode cJ13_hashCode_3 32 = .ok (.ireturn, 1) := dk_172 (dk_at dksJ13_hashCode_3_1 8 rfl rfl)
abbrev cJ13_hashCode_4 : ByteArray := prog_86_method_9_code
def yJ13_hashCode_4 : MethodName := ⟨RJ13, "hashCode", "(I[III)I"⟩
def dkwJ13_hashCode_4_1 : List UInt8 := [59, 132, 5, 1, 167, 255, 236, 26, 172]
abbrev dktJ13_hashCode_4_1 : List UInt8 := dkwJ13_hashCode_4_1 ++ []
def dkwJ13_hashCode_4_0 : List UInt8 := [28, 29, 96, 54, 4, 28, 54, 5, 21, 5, 21, 4, 162, 0, 19, 16, 31, 26, 104, 43, 21, 5, 46, 96]
abbrev dktJ13_hashCode_4_0 : List UInt8 := dkwJ13_hashCode_4_0 ++ dktJ13_hashCode_4_1
theorem dksJ13_hashCode_4_0 : cJ13_hashCode_4.data.toList.drop 0 = dktJ13_hashCode_4_0 := by decide +kernel
theorem dksJ13_hashCode_4_1 : cJ13_hashCode_4.data.toList.drop 24 = dktJ13_hashCode_4_1 := dk_seg dksJ13_hashCode_4_0 24 rfl rfl
theorem dJ13_hashCode_4_0 : decode cJ13_hashCode_4 0 = .ok (.iload_n 2, 1) := dk_28 (dk_at dksJ13_hashCode_4_0 0 rfl rfl)
theorem dJ13_hashCode_4_1 : decode cJ13_hashCode_4 1 = .ok (.iload_n 3, 1) := dk_29 (dk_at dksJ13_hashCode_4_0 1 rfl rfl)
theorem dJ13_hashCode_4_2 : decode cJ13_hashCode_4 2 = .ok (.iadd, 1) := dk_96 (dk_at dksJ13_hashCode_4_0 2 rfl rfl)
theorem dJ13_hashCode_4_3 : decode cJ13_hashCode_4 3 = .ok (.istore 4, 2) := dk_54 4 (dk_at dksJ13_hashCode_4_0 3 rfl rfl)
theorem dJ13_hashCode_4_5 : decode cJ13_hashCode_4 5 = .ok (.iload_n 2, 1) := dk_28 (dk_at dksJ13_hashCode_4_0 5 rfl rfl)
theorem dJ13_hashCode_4_6 : decode cJ13_hashCode_4 6 = .ok (.istore 5, 2) := dk_54 5 (dk_at dksJ13_hashCode_4_0 6 rfl rfl)
theorem dJ13_hashCode_4_8 : decode cJ13_hashCode_4 8 = .ok (.iload 5, 2) := dk_21 5 (dk_at dksJ13_hashCode_4_0 8 rfl rfl)
theorem dJ13_hashCode_4_10 : decode cJ13_hashCode_4 10 = .ok (.iload 4, 2) := dk_21 4 (dk_at dksJ13_hashCode_4_0 10 rfl rfl)
theorem dJ13_hashCode_4_12 : decode cJ13_hashCode_4 12 = .ok (.if_icmp .ge 19, 3) := dk_162 0 19 (dk_at dksJ13_hashCode_4_0 12 rfl rfl)
theorem dJ13_hashCode_4_15 : decode cJ13_hashCode_4 15 = .ok (.bipush 31, 2) := dk_16 31 (dk_at dksJ13_hashCode_4_0 15 rfl rfl)
theorem dJ13_hashCode_4_17 : decode cJ13_hashCode_4 17 = .ok (.iload_n 0, 1) := dk_26 (dk_at dksJ13_hashCode_4_0 17 rfl rfl)
theorem dJ13_hashCode_4_18 : decode cJ13_hashCode_4 18 = .ok (.imul, 1) := dk_104 (dk_at dksJ13_hashCode_4_0 18 rfl rfl)
theorem dJ13_hashCode_4_19 : decode cJ13_hashCode_4 19 = .ok (.aload_n 1, 1) := dk_43 (dk_at dksJ13_hashCode_4_0 19 rfl rfl)
theorem dJ13_hashCode_4_20 : decode cJ13_hashCode_4 20 = .ok (.iload 5, 2) := dk_21 5 (dk_at dksJ13_hashCode_4_0 20 rfl rfl)
theorem dJ13_hashCode_4_22 : decode cJ13_hashCode_4 22 = .ok (.iaload, 1) := dk_46 (dk_at dksJ13_hashCode_4_0 22 rfl rfl)
theorem dJ13_hashCode_4_23 : decode cJ13_hashCode_4 23 = .ok (.iadd, 1) := dk_96 (dk_at dksJ13_hashCode_4_0 23 rfl rfl)
theorem dJ13_hashCode_4_24 : decode cJ13_hashCode_4 24 = .ok (.istore_n 0, 1) := dk_59 (dk_at dksJ13_hashCode_4_1 0 rfl rfl)
theorem dJ13_hashCode_4_25 : decode cJ13_hashCode_4 25 = .ok (.iinc 5 1, 3) := dk_132 5 1 (dk_at dksJ13_hashCode_4_1 1 rfl rfl)
theorem dJ13_hashCode_4_28 : decode cJ13_hashCode_4 28 = .ok (.goto (-20), 3) := dk_167 255 236 (dk_at dksJ13_hashCode_4_1 4 rfl rfl)
theorem dJ13_hashCode_4_31 : decode cJ13_hashCode_4 31 = .ok (.iload_n 0, 1) := dk_26 (dk_at dksJ13_hashCode_4_1 7 rfl rfl)
theorem dJ13_hashCode_4_32 : decode cJ13_hashCode_4 32 = .ok (.ireturn, 1) := dk_172 (dk_at dksJ13_hashCode_4_1 8 rfl rfl)
abbrev cJ13_mismatch : ByteArray := prog_86_method_13_code
def yJ13_mismatch : MethodName := ⟨RJ13, "mismatch", "([B[BI)I"⟩
def dkwJ13_mismatch_3 : List UInt8 := [172]
abbrev dktJ13_mismatch_3 : List UInt8 := dkwJ13_mismatch_3 ++ []
def dkwJ13_mismatch_2 : List UInt8 := [62, 29, 28, 162, 0, 20, 42, 29, 51, 43, 29, 51, 159, 0, 5, 29, 172, 132, 3, 1, 167, 255, 237, 2]
abbrev dktJ13_mismatch_2 : List UInt8 := dkwJ13_mismatch_2 ++ dktJ13_mismatch_3
def dkwJ13_mismatch_1 : List UInt8 := [43, 178, 0, 126, 133, 28, 178, 0, 129, 184, 0, 122, 62, 29, 155, 0, 5, 29, 172, 28, 29, 2, 130, 100]
abbrev dktJ13_mismatch_1 : List UInt8 := dkwJ13_mismatch_1 ++ dktJ13_mismatch_2
def dkwJ13_mismatch_0 : List UInt8 := [3, 62, 28, 16, 7, 164, 0, 44, 42, 3, 51, 43, 3, 51, 159, 0, 5, 3, 172, 42, 178, 0, 126, 133]
abbrev dktJ13_mismatch_0 : List UInt8 := dkwJ13_mismatch_0 ++ dktJ13_mismatch_1
theorem dksJ13_mismatch_0 : cJ13_mismatch.data.toList.drop 0 = dktJ13_mismatch_0 := by decide +kernel
theorem dksJ13_mismatch_1 : cJ13_mismatch.data.toList.drop 24 = dktJ13_mismatch_1 := dk_seg dksJ13_mismatch_0 24 rfl rfl
theorem dksJ13_mismatch_2 : cJ13_mismatch.data.toList.drop 48 = dktJ13_mismatch_2 := dk_seg dksJ13_mismatch_1 24 rfl rfl
theorem dksJ13_mismatch_3 : cJ13_mismatch.data.toList.drop 72 = dktJ13_mismatch_3 := dk_seg dksJ13_mismatch_2 24 rfl rfl
theorem dJ13_mismatch_0 : decode cJ13_mismatch 0 = .ok (.iconst 0, 1) := dk_3 (dk_at dksJ13_mismatch_0 0 rfl rfl)
theorem dJ13_mismatch_1 : decode cJ13_mismatch 1 = .ok (.istore_n 3, 1) := dk_62 (dk_at dksJ13_mismatch_0 1 rfl rfl)
theorem dJ13_mismatch_2 : decode cJ13_mismatch 2 = .ok (.iload_n 2, 1) := dk_28 (dk_at dksJ13_mismatch_0 2 rfl rfl)
theorem dJ13_mismatch_3 : decode cJ13_mismatch 3 = .ok (.bipush 7, 2) := dk_16 7 (dk_at dksJ13_mismatch_0 3 rfl rfl)
theorem dJ13_mismatch_5 : decode cJ13_mismatch 5 = .ok (.if_icmp .le 44, 3) := dk_164 0 44 (dk_at dksJ13_mismatch_0 5 rfl rfl)
theorem dJ13_mismatch_8 : decode cJ13_mismatch 8 = .ok (.aload_n 0, 1) := dk_42 (dk_at dksJ13_mismatch_0 8 rfl rfl)
theorem dJ13_mismatch_9 : decode cJ13_mismatch 9 = .ok (.iconst 0, 1) := dk_3 (dk_at dksJ13_mismatch_0 9 rfl rfl)
theorem dJ13_mismatch_10 : decode cJ13_mismatch 10 = .ok (.baload, 1) := dk_51 (dk_at dksJ13_mismatch_0 10 rfl rfl)
theorem dJ13_mismatch_11 : decode cJ13_mismatch 11 = .ok (.aload_n 1, 1) := dk_43 (dk_at dksJ13_mismatch_0 11 rfl rfl)
theorem dJ13_mismatch_12 : decode cJ13_mismatch 12 = .ok (.iconst 0, 1) := dk_3 (dk_at dksJ13_mismatch_0 12 rfl rfl)
theorem dJ13_mismatch_13 : decode cJ13_mismatch 13 = .ok (.baload, 1) := dk_51 (dk_at dksJ13_mismatch_0 13 rfl rfl)
theorem dJ13_mismatch_14 : decode cJ13_mismatch 14 = .ok (.if_icmp .eq 5, 3) := dk_159 0 5 (dk_at dksJ13_mismatch_0 14 rfl rfl)
theorem dJ13_mismatch_17 : decode cJ13_mismatch 17 = .ok (.iconst 0, 1) := dk_3 (dk_at dksJ13_mismatch_0 17 rfl rfl)
theorem dJ13_mismatch_18 : decode cJ13_mismatch 18 = .ok (.ireturn, 1) := dk_172 (dk_at dksJ13_mismatch_0 18 rfl rfl)
theorem dJ13_mismatch_19 : decode cJ13_mismatch 19 = .ok (.aload_n 0, 1) := dk_42 (dk_at dksJ13_mismatch_0 19 rfl rfl)
theorem dJ13_mismatch_20 : decode cJ13_mismatch 20 = .ok (.getstatic 126, 3) := dk_178 0 126 (dk_at dksJ13_mismatch_0 20 rfl rfl)
theorem dJ13_mismatch_23 : decode cJ13_mismatch 23 = .ok (.i2l, 1) := dk_133 (dk_at dksJ13_mismatch_0 23 rfl rfl)
theorem dJ13_mismatch_24 : decode cJ13_mismatch 24 = .ok (.aload_n 1, 1) := dk_43 (dk_at dksJ13_mismatch_1 0 rfl rfl)
theorem dJ13_mismatch_25 : decode cJ13_mismatch 25 = .ok (.getstatic 126, 3) := dk_178 0 126 (dk_at dksJ13_mismatch_1 1 rfl rfl)
theorem dJ13_mismatch_28 : decode cJ13_mismatch 28 = .ok (.i2l, 1) := dk_133 (dk_at dksJ13_mismatch_1 4 rfl rfl)
theorem dJ13_mismatch_29 : decode cJ13_mismatch 29 = .ok (.iload_n 2, 1) := dk_28 (dk_at dksJ13_mismatch_1 5 rfl rfl)
theorem dJ13_mismatch_30 : decode cJ13_mismatch 30 = .ok (.getstatic 129, 3) := dk_178 0 129 (dk_at dksJ13_mismatch_1 6 rfl rfl)
theorem dJ13_mismatch_33 : decode cJ13_mismatch 33 = .ok (.invokestatic 122, 3) := dk_184 0 122 (dk_at dksJ13_mismatch_1 9 rfl rfl)
theorem dJ13_mismatch_36 : decode cJ13_mismatch 36 = .ok (.istore_n 3, 1) := dk_62 (dk_at dksJ13_mismatch_1 12 rfl rfl)
theorem dJ13_mismatch_37 : decode cJ13_mismatch 37 = .ok (.iload_n 3, 1) := dk_29 (dk_at dksJ13_mismatch_1 13 rfl rfl)
theorem dJ13_mismatch_38 : decode cJ13_mismatch 38 = .ok (.ifCond .lt 5, 3) := dk_155 0 5 (dk_at dksJ13_mismatch_1 14 rfl rfl)
theorem dJ13_mismatch_41 : decode cJ13_mismatch 41 = .ok (.iload_n 3, 1) := dk_29 (dk_at dksJ13_mismatch_1 17 rfl rfl)
theorem dJ13_mismatch_42 : decode cJ13_mismatch 42 = .ok (.ireturn, 1) := dk_172 (dk_at dksJ13_mismatch_1 18 rfl rfl)
theorem dJ13_mismatch_43 : decode cJ13_mismatch 43 = .ok (.iload_n 2, 1) := dk_28 (dk_at dksJ13_mismatch_1 19 rfl rfl)
theorem dJ13_mismatch_44 : decode cJ13_mismatch 44 = .ok (.iload_n 3, 1) := dk_29 (dk_at dksJ13_mismatch_1 20 rfl rfl)
theorem dJ13_mismatch_45 : decode cJ13_mismatch 45 = .ok (.iconst (-1), 1) := dk_2 (dk_at dksJ13_mismatch_1 21 rfl rfl)
theorem dJ13_mismatch_46 : decode cJ13_mismatch 46 = .ok (.ixor, 1) := dk_130 (dk_at dksJ13_mismatch_1 22 rfl rfl)
theorem dJ13_mismatch_47 : decode cJ13_mismatch 47 = .ok (.isub, 1) := dk_100 (dk_at dksJ13_mismatch_1 23 rfl rfl)
theorem dJ13_mismatch_48 : decode cJ13_mismatch 48 = .ok (.istore_n 3, 1) := dk_62 (dk_at dksJ13_mismatch_2 0 rfl rfl)
theorem dJ13_mismatch_49 : decode cJ13_mismatch 49 = .ok (.iload_n 3, 1) := dk_29 (dk_at dksJ13_mismatch_2 1 rfl rfl)
theorem dJ13_mismatch_50 : decode cJ13_mismatch 50 = .ok (.iload_n 2, 1) := dk_28 (dk_at dksJ13_mismatch_2 2 rfl rfl)
theorem dJ13_mismatch_51 : decode cJ13_mismatch 51 = .ok (.if_icmp .ge 20, 3) := dk_162 0 20 (dk_at dksJ13_mismatch_2 3 rfl rfl)
theorem dJ13_mismatch_54 : decode cJ13_mismatch 54 = .ok (.aload_n 0, 1) := dk_42 (dk_at dksJ13_mismatch_2 6 rfl rfl)
theorem dJ13_mismatch_55 : decode cJ13_mismatch 55 = .ok (.iload_n 3, 1) := dk_29 (dk_at dksJ13_mismatch_2 7 rfl rfl)
theorem dJ13_mismatch_56 : decode cJ13_mismatch 56 = .ok (.baload, 1) := dk_51 (dk_at dksJ13_mismatch_2 8 rfl rfl)
theorem dJ13_mismatch_57 : decode cJ13_mismatch 57 = .ok (.aload_n 1, 1) := dk_43 (dk_at dksJ13_mismatch_2 9 rfl rfl)
theorem dJ13_mismatch_58 : decode cJ13_mismatch 58 = .ok (.iload_n 3, 1) := dk_29 (dk_at dksJ13_mismatch_2 10 rfl rfl)
theorem dJ13_mismatch_59 : decode cJ13_mismatch 59 = .ok (.baload, 1) := dk_51 (dk_at dksJ13_mismatch_2 11 rfl rfl)
theorem dJ13_mismatch_60 : decode cJ13_mismatch 60 = .ok (.if_icmp .eq 5, 3) := dk_159 0 5 (dk_at dksJ13_mismatch_2 12 rfl rfl)
theorem dJ13_mismatch_63 : decode cJ13_mismatch 63 = .ok (.iload_n 3, 1) := dk_29 (dk_at dksJ13_mismatch_2 15 rfl rfl)
theorem dJ13_mismatch_64 : decode cJ13_mismatch 64 = .ok (.ireturn, 1) := dk_172 (dk_at dksJ13_mismatch_2 16 rfl rfl)
theorem dJ13_mismatch_65 : decode cJ13_mismatch 65 = .ok (.iinc 3 1, 3) := dk_132 3 1 (dk_at dksJ13_mismatch_2 17 rfl rfl)
theorem dJ13_mismatch_68 : decode cJ13_mismatch 68 = .ok (.goto (-19), 3) := dk_167 255 237 (dk_at dksJ13_mismatch_2 20 rfl rfl)
theorem dJ13_mismatch_71 : decode cJ13_mismatch 71 = .ok (.iconst (-1), 1) := dk_2 (dk_at dksJ13_mismatch_2 23 rfl rfl)
theorem dJ13_mismatch_72 : decode cJ13_mismatch 72 = .ok (.ireturn, 1) := dk_172 (dk_at dksJ13_mismatch_3 0 rfl rfl)
abbrev cJ13_vectorizedMismatch : ByteArray := prog_86_method_3_code
def yJ13_vectorizedMismatch : MethodName := ⟨RJ13, "vectorizedMismatch", "(Ljava/lang/Object;JLjava/lang/Object;JII)I"⟩
def dkwJ13_vectorizedMismatch_11 : List UInt8 := [54, 10, 21, 10, 2, 130, 172, 21, 10, 2, 130, 172]
abbrev dktJ13_vectorizedMismatch_11 : List UInt8 := dkwJ13_vectorizedMismatch_11 ++ []
def dkwJ13_vectorizedMismatch_10 : List UInt8 := [178, 0, 46, 21, 7, 96, 122, 54, 17, 21, 9, 21, 8, 120, 21, 17, 96, 172, 21, 10, 21, 11, 100]
abbrev dktJ13_vectorizedMismatch_10 : List UInt8 := dkwJ13_vectorizedMismatch_10 ++ dktJ13_vectorizedMismatch_11
def dkwJ13_vectorizedMismatch_9 : List UInt8 := [153, 0, 18, 21, 16, 184, 0, 58, 178, 0, 46, 21, 7, 96, 122, 167, 0, 15, 21, 16, 184, 0, 11]
abbrev dktJ13_vectorizedMismatch_9 : List UInt8 := dkwJ13_vectorizedMismatch_9 ++ dktJ13_vectorizedMismatch_10
def dkwJ13_vectorizedMismatch_8 : List UInt8 := [182, 0, 54, 54, 15, 21, 14, 21, 15, 159, 0, 54, 21, 14, 21, 15, 130, 54, 16, 178, 0, 36]
abbrev dktJ13_vectorizedMismatch_8 : List UInt8 := dkwJ13_vectorizedMismatch_8 ++ dktJ13_vectorizedMismatch_9
def dkwJ13_vectorizedMismatch_7 : List UInt8 := [55, 12, 178, 0, 26, 42, 31, 22, 12, 97, 182, 0, 54, 54, 14, 178, 0, 26, 45, 22, 4, 22, 12, 97]
abbrev dktJ13_vectorizedMismatch_7 : List UInt8 := dkwJ13_vectorizedMismatch_7 ++ dktJ13_vectorizedMismatch_8
def dkwJ13_vectorizedMismatch_6 : List UInt8 := [4, 178, 0, 51, 21, 7, 100, 120, 54, 11, 21, 10, 21, 11, 161, 0, 104, 21, 9, 133, 178, 0, 20, 121]
abbrev dktJ13_vectorizedMismatch_6 : List UInt8 := dkwJ13_vectorizedMismatch_6 ++ dktJ13_vectorizedMismatch_7
def dkwJ13_vectorizedMismatch_5 : List UInt8 := [132, 9, 1, 167, 255, 148, 21, 6, 21, 9, 21, 8, 120, 100, 54, 10, 21, 7, 178, 0, 51, 162, 0, 126]
abbrev dktJ13_vectorizedMismatch_5 : List UInt8 := dkwJ13_vectorizedMismatch_5 ++ dktJ13_vectorizedMismatch_6
def dkwJ13_vectorizedMismatch_4 : List UInt8 := [22, 16, 184, 0, 49, 178, 0, 46, 21, 7, 96, 122, 54, 18, 21, 9, 21, 8, 120, 21, 18, 96, 172]
abbrev dktJ13_vectorizedMismatch_4 : List UInt8 := dkwJ13_vectorizedMismatch_4 ++ dktJ13_vectorizedMismatch_5
def dkwJ13_vectorizedMismatch_3 : List UInt8 := [55, 16, 178, 0, 36, 153, 0, 18, 22, 16, 184, 0, 40, 178, 0, 46, 21, 7, 96, 122, 167, 0, 15]
abbrev dktJ13_vectorizedMismatch_3 : List UInt8 := dkwJ13_vectorizedMismatch_3 ++ dktJ13_vectorizedMismatch_4
def dkwJ13_vectorizedMismatch_2 : List UInt8 := [22, 4, 22, 10, 97, 182, 0, 30, 55, 14, 22, 12, 22, 14, 148, 153, 0, 54, 22, 12, 22, 14, 131]
abbrev dktJ13_vectorizedMismatch_2 : List UInt8 := dkwJ13_vectorizedMismatch_2 ++ dktJ13_vectorizedMismatch_3
def dkwJ13_vectorizedMismatch_1 : List UInt8 := [178, 0, 20, 121, 55, 10, 178, 0, 26, 42, 31, 22, 10, 97, 182, 0, 30, 55, 12, 178, 0, 26, 45]
abbrev dktJ13_vectorizedMismatch_1 : List UInt8 := dkwJ13_vectorizedMismatch_1 ++ dktJ13_vectorizedMismatch_2
def dkwJ13_vectorizedMismatch_0 : List UInt8 := [178, 0, 20, 21, 7, 100, 54, 8, 3, 54, 9, 21, 9, 21, 6, 21, 8, 122, 162, 0, 104, 21, 9, 133]
abbrev dktJ13_vectorizedMismatch_0 : List UInt8 := dkwJ13_vectorizedMismatch_0 ++ dktJ13_vectorizedMismatch_1
theorem dksJ13_vectorizedMismatch_0 : cJ13_vectorizedMismatch.data.toList.drop 0 = dktJ13_vectorizedMismatch_0 := by decide +kernel
theorem dksJ13_vectorizedMismatch_1 : cJ13_vectorizedMismatch.data.toList.drop 24 = dktJ13_vectorizedMismatch_1 := dk_seg dksJ13_vectorizedMismatch_0 24 rfl rfl
theorem dksJ13_vectorizedMismatch_2 : cJ13_vectorizedMismatch.data.toList.drop 47 = dktJ13_vectorizedMismatch_2 := dk_seg dksJ13_vectorizedMismatch_1 23 rfl rfl
theorem dksJ13_vectorizedMismatch_3 : cJ13_vectorizedMismatch.data.toList.drop 70 = dktJ13_vectorizedMismatch_3 := dk_seg dksJ13_vectorizedMismatch_2 23 rfl rfl
theorem dksJ13_vectorizedMismatch_4 : cJ13_vectorizedMismatch.data.toList.drop 93 = dktJ13_vectorizedMismatch_4 := dk_seg dksJ13_vectorizedMismatch_3 23 rfl rfl
theorem dksJ13_vectorizedMismatch_5 : cJ13_vectorizedMismatch.data.toList.drop 116 = dktJ13_vectorizedMismatch_5 := dk_seg dksJ13_vectorizedMismatch_4 23 rfl rfl
theorem dksJ13_vectorizedMismatch_6 : cJ13_vectorizedMismatch.data.toList.drop 140 = dktJ13_vectorizedMismatch_6 := dk_seg dksJ13_vectorizedMismatch_5 24 rfl rfl
theorem dksJ13_vectorizedMismatch_7 : cJ13_vectorizedMismatch.data.toList.drop 164 = dktJ13_vectorizedMismatch_7 := dk_seg dksJ13_vectorizedMismatch_6 24 rfl rfl
theorem dksJ13_vectorizedMismatch_8 : cJ13_vectorizedMismatch.data.toList.drop 188 = dktJ13_vectorizedMismatch_8 := dk_seg dksJ13_vectorizedMismatch_7 24 rfl rfl
theorem dksJ13_vectorizedMismatch_9 : cJ13_vectorizedMismatch.data.toList.drop 210 = dktJ13_vectorizedMismatch_9 := dk_seg dksJ13_vectorizedMismatch_8 22 rfl rfl
theorem dksJ13_vectorizedMismatch_10 : cJ13_vectorizedMismatch.data.toList.drop 233 = dktJ13_vectorizedMismatch_10 := dk_seg dksJ13_vectorizedMismatch_9 23 rfl rfl
theorem dksJ13_vectorizedMismatch_11 : cJ13_vectorizedMismatch.data.toList.drop 256 = dktJ13_vectorizedMismatch_11 := dk_seg dksJ13_vectorizedMismatch_10 23 rfl rfl
theorem dJ13_vectorizedMismatch_0 : decode cJ13_vectorizedMismatch 0 = .ok (.getstatic 20, 3) := dk_178 0 20 (dk_at dksJ13_vectorizedMismatch_0 0 rfl rfl)
theorem dJ13_vectorizedMismatch_3 : decode cJ13_vectorizedMismatch 3 = .ok (.iload 7, 2) := dk_21 7 (dk_at dksJ13_vectorizedMismatch_0 3 rfl rfl)
theorem dJ13_vectorizedMismatch_5 : decode cJ13_vectorizedMismatch 5 = .ok (.isub, 1) := dk_100 (dk_at dksJ13_vectorizedMismatch_0 5 rfl rfl)
theorem dJ13_vectorizedMismatch_6 : decode cJ13_vectorizedMismatch 6 = .ok (.istore 8, 2) := dk_54 8 (dk_at dksJ13_vectorizedMismatch_0 6 rfl rfl)
theorem dJ13_vectorizedMismatch_8 : decode cJ13_vectorizedMismatch 8 = .ok (.iconst 0, 1) := dk_3 (dk_at dksJ13_vectorizedMismatch_0 8 rfl rfl)
theorem dJ13_vectorizedMismatch_9 : decode cJ13_vectorizedMismatch 9 = .ok (.istore 9, 2) := dk_54 9 (dk_at dksJ13_vectorizedMismatch_0 9 rfl rfl)
theorem dJ13_vectorizedMismatch_11 : decode cJ13_vectorizedMismatch 11 = .ok (.iload 9, 2) := dk_21 9 (dk_at dksJ13_vectorizedMismatch_0 11 rfl rfl)
theorem dJ13_vectorizedMismatch_13 : decode cJ13_vectorizedMismatch 13 = .ok (.iload 6, 2) := dk_21 6 (dk_at dksJ13_vectorizedMismatch_0 13 rfl rfl)
theorem dJ13_vectorizedMismatch_15 : decode cJ13_vectorizedMismatch 15 = .ok (.iload 8, 2) := dk_21 8 (dk_at dksJ13_vectorizedMismatch_0 15 rfl rfl)
theorem dJ13_vectorizedMismatch_17 : decode cJ13_vectorizedMismatch 17 = .ok (.ishr, 1) := dk_122 (dk_at dksJ13_vectorizedMismatch_0 17 rfl rfl)
theorem dJ13_vectorizedMismatch_18 : decode cJ13_vectorizedMismatch 18 = .ok (.if_icmp .ge 104, 3) := dk_162 0 104 (dk_at dksJ13_vectorizedMismatch_0 18 rfl rfl)
theorem dJ13_vectorizedMismatch_21 : decode cJ13_vectorizedMismatch 21 = .ok (.iload 9, 2) := dk_21 9 (dk_at dksJ13_vectorizedMismatch_0 21 rfl rfl)
theorem dJ13_vectorizedMismatch_23 : decode cJ13_vectorizedMismatch 23 = .ok (.i2l, 1) := dk_133 (dk_at dksJ13_vectorizedMismatch_0 23 rfl rfl)
theorem dJ13_vectorizedMismatch_24 : decode cJ13_vectorizedMismatch 24 = .ok (.getstatic 20, 3) := dk_178 0 20 (dk_at dksJ13_vectorizedMismatch_1 0 rfl rfl)
theorem dJ13_vectorizedMismatch_27 : decode cJ13_vectorizedMismatch 27 = .ok (.lshl, 1) := dk_121 (dk_at dksJ13_vectorizedMismatch_1 3 rfl rfl)
theorem dJ13_vectorizedMismatch_28 : decode cJ13_vectorizedMismatch 28 = .ok (.lstore 10, 2) := dk_55 10 (dk_at dksJ13_vectorizedMismatch_1 4 rfl rfl)
theorem dJ13_vectorizedMismatch_30 : decode cJ13_vectorizedMismatch 30 = .ok (.getstatic 26, 3) := dk_178 0 26 (dk_at dksJ13_vectorizedMismatch_1 6 rfl rfl)
theorem dJ13_vectorizedMismatch_33 : decode cJ13_vectorizedMismatch 33 = .ok (.aload_n 0, 1) := dk_42 (dk_at dksJ13_vectorizedMismatch_1 9 rfl rfl)
theorem dJ13_vectorizedMismatch_34 : decode cJ13_vectorizedMismatch 34 = .ok (.lload_n 1, 1) := dk_31 (dk_at dksJ13_vectorizedMismatch_1 10 rfl rfl)
theorem dJ13_vectorizedMismatch_35 : decode cJ13_vectorizedMismatch 35 = .ok (.lload 10, 2) := dk_22 10 (dk_at dksJ13_vectorizedMismatch_1 11 rfl rfl)
theorem dJ13_vectorizedMismatch_37 : decode cJ13_vectorizedMismatch 37 = .ok (.ladd, 1) := dk_97 (dk_at dksJ13_vectorizedMismatch_1 13 rfl rfl)
theorem dJ13_vectorizedMismatch_38 : decode cJ13_vectorizedMismatch 38 = .ok (.invokevirtual 30, 3) := dk_182 0 30 (dk_at dksJ13_vectorizedMismatch_1 14 rfl rfl)
theorem dJ13_vectorizedMismatch_41 : decode cJ13_vectorizedMismatch 41 = .ok (.lstore 12, 2) := dk_55 12 (dk_at dksJ13_vectorizedMismatch_1 17 rfl rfl)
theorem dJ13_vectorizedMismatch_43 : decode cJ13_vectorizedMismatch 43 = .ok (.getstatic 26, 3) := dk_178 0 26 (dk_at dksJ13_vectorizedMismatch_1 19 rfl rfl)
theorem dJ13_vectorizedMismatch_46 : decode cJ13_vectorizedMismatch 46 = .ok (.aload_n 3, 1) := dk_45 (dk_at dksJ13_vectorizedMismatch_1 22 rfl rfl)
theorem dJ13_vectorizedMismatch_47 : decode cJ13_vectorizedMismatch 47 = .ok (.lload 4, 2) := dk_22 4 (dk_at dksJ13_vectorizedMismatch_2 0 rfl rfl)
theorem dJ13_vectorizedMismatch_49 : decode cJ13_vectorizedMismatch 49 = .ok (.lload 10, 2) := dk_22 10 (dk_at dksJ13_vectorizedMismatch_2 2 rfl rfl)
theorem dJ13_vectorizedMismatch_51 : decode cJ13_vectorizedMismatch 51 = .ok (.ladd, 1) := dk_97 (dk_at dksJ13_vectorizedMismatch_2 4 rfl rfl)
theorem dJ13_vectorizedMismatch_52 : decode cJ13_vectorizedMismatch 52 = .ok (.invokevirtual 30, 3) := dk_182 0 30 (dk_at dksJ13_vectorizedMismatch_2 5 rfl rfl)
theorem dJ13_vectorizedMismatch_55 : decode cJ13_vectorizedMismatch 55 = .ok (.lstore 14, 2) := dk_55 14 (dk_at dksJ13_vectorizedMismatch_2 8 rfl rfl)
theorem dJ13_vectorizedMismatch_57 : decode cJ13_vectorizedMismatch 57 = .ok (.lload 12, 2) := dk_22 12 (dk_at dksJ13_vectorizedMismatch_2 10 rfl rfl)
theorem dJ13_vectorizedMismatch_59 : decode cJ13_vectorizedMismatch 59 = .ok (.lload 14, 2) := dk_22 14 (dk_at dksJ13_vectorizedMismatch_2 12 rfl rfl)
theorem dJ13_vectorizedMismatch_61 : decode cJ13_vectorizedMismatch 61 = .ok (.lcmp, 1) := dk_148 (dk_at dksJ13_vectorizedMismatch_2 14 rfl rfl)
theorem dJ13_vectorizedMismatch_62 : decode cJ13_vectorizedMismatch 62 = .ok (.ifCond .eq 54, 3) := dk_153 0 54 (dk_at dksJ13_vectorizedMismatch_2 15 rfl rfl)
theorem dJ13_vectorizedMismatch_65 : decode cJ13_vectorizedMismatch 65 = .ok (.lload 12, 2) := dk_22 12 (dk_at dksJ13_vectorizedMismatch_2 18 rfl rfl)
theorem dJ13_vectorizedMismatch_67 : decode cJ13_vectorizedMismatch 67 = .ok (.lload 14, 2) := dk_22 14 (dk_at dksJ13_vectorizedMismatch_2 20 rfl rfl)
theorem dJ13_vectorizedMismatch_69 : decode cJ13_vectorizedMismatch 69 = .ok (.lxor, 1) := dk_131 (dk_at dksJ13_vectorizedMismatch_2 22 rfl rfl)
theorem dJ13_vectorizedMismatch_70 : decode cJ13_vectorizedMismatch 70 = .ok (.lstore 16, 2) := dk_55 16 (dk_at dksJ13_vectorizedMismatch_3 0 rfl rfl)
theorem dJ13_vectorizedMismatch_72 : decode cJ13_vectorizedMismatch 72 = .ok (.getstatic 36, 3) := dk_178 0 36 (dk_at dksJ13_vectorizedMismatch_3 2 rfl rfl)
theorem dJ13_vectorizedMismatch_75 : decode cJ13_vectorizedMismatch 75 = .ok (.ifCond .eq 18, 3) := dk_153 0 18 (dk_at dksJ13_vectorizedMismatch_3 5 rfl rfl)
theorem dJ13_vectorizedMismatch_78 : decode cJ13_vectorizedMismatch 78 = .ok (.lload 16, 2) := dk_22 16 (dk_at dksJ13_vectorizedMismatch_3 8 rfl rfl)
theorem dJ13_vectorizedMismatch_80 : decode cJ13_vectorizedMismatch 80 = .ok (.invokestatic 40, 3) := dk_184 0 40 (dk_at dksJ13_vectorizedMismatch_3 10 rfl rfl)
theorem dJ13_vectorizedMismatch_83 : decode cJ13_vectorizedMismatch 83 = .ok (.getstatic 46, 3) := dk_178 0 46 (dk_at dksJ13_vectorizedMismatch_3 13 rfl rfl)
theorem dJ13_vectorizedMismatch_86 : decode cJ13_vectorizedMismatch 86 = .ok (.iload 7, 2) := dk_21 7 (dk_at dksJ13_vectorizedMismatch_3 16 rfl rfl)
theorem dJ13_vectorizedMismatch_88 : decode cJ13_vectorizedMismatch 88 = .ok (.iadd, 1) := dk_96 (dk_at dksJ13_vectorizedMismatch_3 18 rfl rfl)
theorem dJ13_vectorizedMismatch_89 : decode cJ13_vectorizedMismatch 89 = .ok (.ishr, 1) := dk_122 (dk_at dksJ13_vectorizedMismatch_3 19 rfl rfl)
theorem dJ13_vectorizedMismatch_90 : decode cJ13_vectorizedMismatch 90 = .ok (.goto 15, 3) := dk_167 0 15 (dk_at dksJ13_vectorizedMismatch_3 20 rfl rfl)
theorem dJ13_vectorizedMismatch_93 : decode cJ13_vectorizedMismatch 93 = .ok (.lload 16, 2) := dk_22 16 (dk_at dksJ13_vectorizedMismatch_4 0 rfl rfl)
theorem dJ13_vectorizedMismatch_95 : decode cJ13_vectorizedMismatch 95 = .ok (.invokestatic 49, 3) := dk_184 0 49 (dk_at dksJ13_vectorizedMismatch_4 2 rfl rfl)
theorem dJ13_vectorizedMismatch_98 : decode cJ13_vectorizedMismatch 98 = .ok (.getstatic 46, 3) := dk_178 0 46 (dk_at dksJ13_vectorizedMismatch_4 5 rfl rfl)
theorem dJ13_vectorizedMismatch_101 : decode cJ13_vectorizedMismatch 101 = .ok (.iload 7, 2) := dk_21 7 (dk_at dksJ13_vectorizedMismatch_4 8 rfl rfl)
theorem dJ13_vectorizedMismatch_103 : decode cJ13_vectorizedMismatch 103 = .ok (.iadd, 1) := dk_96 (dk_at dksJ13_vectorizedMismatch_4 10 rfl rfl)
theorem dJ13_vectorizedMismatch_104 : decode cJ13_vectorizedMismatch 104 = .ok (.ishr, 1) := dk_122 (dk_at dksJ13_vectorizedMismatch_4 11 rfl rfl)
theorem dJ13_vectorizedMismatch_105 : decode cJ13_vectorizedMismatch 105 = .ok (.istore 18, 2) := dk_54 18 (dk_at dksJ13_vectorizedMismatch_4 12 rfl rfl)
theorem dJ13_vectorizedMismatch_107 : decode cJ13_vectorizedMismatch 107 = .ok (.iload 9, 2) := dk_21 9 (dk_at dksJ13_vectorizedMismatch_4 14 rfl rfl)
theorem dJ13_vectorizedMismatch_109 : decode cJ13_vectorizedMismatch 109 = .ok (.iload 8, 2) := dk_21 8 (dk_at dksJ13_vectorizedMismatch_4 16 rfl rfl)
theorem dJ13_vectorizedMismatch_111 : decode cJ13_vectorizedMismatch 111 = .ok (.ishl, 1) := dk_120 (dk_at dksJ13_vectorizedMismatch_4 18 rfl rfl)
theorem dJ13_vectorizedMismatch_112 : decode cJ13_vectorizedMismatch 112 = .ok (.iload 18, 2) := dk_21 18 (dk_at dksJ13_vectorizedMismatch_4 19 rfl rfl)
theorem dJ13_vectorizedMismatch_114 : decode cJ13_vectorizedMismatch 114 = .ok (.iadd, 1) := dk_96 (dk_at dksJ13_vectorizedMismatch_4 21 rfl rfl)
theorem dJ13_vectorizedMismatch_115 : decode cJ13_vectorizedMismatch 115 = .ok (.ireturn, 1) := dk_172 (dk_at dksJ13_vectorizedMismatch_4 22 rfl rfl)
theorem dJ13_vectorizedMismatch_116 : decode cJ13_vectorizedMismatch 116 = .ok (.iinc 9 1, 3) := dk_132 9 1 (dk_at dksJ13_vectorizedMismatch_5 0 rfl rfl)
theorem dJ13_vectorizedMismatch_119 : decode cJ13_vectorizedMismatch 119 = .ok (.goto (-108), 3) := dk_167 255 148 (dk_at dksJ13_vectorizedMismatch_5 3 rfl rfl)
theorem dJ13_vectorizedMismatch_122 : decode cJ13_vectorizedMismatch 122 = .ok (.iload 6, 2) := dk_21 6 (dk_at dksJ13_vectorizedMismatch_5 6 rfl rfl)
theorem dJ13_vectorizedMismatch_124 : decode cJ13_vectorizedMismatch 124 = .ok (.iload 9, 2) := dk_21 9 (dk_at dksJ13_vectorizedMismatch_5 8 rfl rfl)
theorem dJ13_vectorizedMismatch_126 : decode cJ13_vectorizedMismatch 126 = .ok (.iload 8, 2) := dk_21 8 (dk_at dksJ13_vectorizedMismatch_5 10 rfl rfl)
theorem dJ13_vectorizedMismatch_128 : decode cJ13_vectorizedMismatch 128 = .ok (.ishl, 1) := dk_120 (dk_at dksJ13_vectorizedMismatch_5 12 rfl rfl)
theorem dJ13_vectorizedMismatch_129 : decode cJ13_vectorizedMismatch 129 = .ok (.isub, 1) := dk_100 (dk_at dksJ13_vectorizedMismatch_5 13 rfl rfl)
theorem dJ13_vectorizedMismatch_130 : decode cJ13_vectorizedMismatch 130 = .ok (.istore 10, 2) := dk_54 10 (dk_at dksJ13_vectorizedMismatch_5 14 rfl rfl)
theorem dJ13_vectorizedMismatch_132 : decode cJ13_vectorizedMismatch 132 = .ok (.iload 7, 2) := dk_21 7 (dk_at dksJ13_vectorizedMismatch_5 16 rfl rfl)
theorem dJ13_vectorizedMismatch_134 : decode cJ13_vectorizedMismatch 134 = .ok (.getstatic 51, 3) := dk_178 0 51 (dk_at dksJ13_vectorizedMismatch_5 18 rfl rfl)
theorem dJ13_vectorizedMismatch_137 : decode cJ13_vectorizedMismatch 137 = .ok (.if_icmp .ge 126, 3) := dk_162 0 126 (dk_at dksJ13_vectorizedMismatch_5 21 rfl rfl)
theorem dJ13_vectorizedMismatch_140 : decode cJ13_vectorizedMismatch 140 = .ok (.iconst 1, 1) := dk_4 (dk_at dksJ13_vectorizedMismatch_6 0 rfl rfl)
theorem dJ13_vectorizedMismatch_141 : decode cJ13_vectorizedMismatch 141 = .ok (.getstatic 51, 3) := dk_178 0 51 (dk_at dksJ13_vectorizedMismatch_6 1 rfl rfl)
theorem dJ13_vectorizedMismatch_144 : decode cJ13_vectorizedMismatch 144 = .ok (.iload 7, 2) := dk_21 7 (dk_at dksJ13_vectorizedMismatch_6 4 rfl rfl)
theorem dJ13_vectorizedMismatch_146 : decode cJ13_vectorizedMismatch 146 = .ok (.isub, 1) := dk_100 (dk_at dksJ13_vectorizedMismatch_6 6 rfl rfl)
theorem dJ13_vectorizedMismatch_147 : decode cJ13_vectorizedMismatch 147 = .ok (.ishl, 1) := dk_120 (dk_at dksJ13_vectorizedMismatch_6 7 rfl rfl)
theorem dJ13_vectorizedMismatch_148 : decode cJ13_vectorizedMismatch 148 = .ok (.istore 11, 2) := dk_54 11 (dk_at dksJ13_vectorizedMismatch_6 8 rfl rfl)
theorem dJ13_vectorizedMismatch_150 : decode cJ13_vectorizedMismatch 150 = .ok (.iload 10, 2) := dk_21 10 (dk_at dksJ13_vectorizedMismatch_6 10 rfl rfl)
theorem dJ13_vectorizedMismatch_152 : decode cJ13_vectorizedMismatch 152 = .ok (.iload 11, 2) := dk_21 11 (dk_at dksJ13_vectorizedMismatch_6 12 rfl rfl)
theorem dJ13_vectorizedMismatch_154 : decode cJ13_vectorizedMismatch 154 = .ok (.if_icmp .lt 104, 3) := dk_161 0 104 (dk_at dksJ13_vectorizedMismatch_6 14 rfl rfl)
theorem dJ13_vectorizedMismatch_157 : decode cJ13_vectorizedMismatch 157 = .ok (.iload 9, 2) := dk_21 9 (dk_at dksJ13_vectorizedMismatch_6 17 rfl rfl)
theorem dJ13_vectorizedMismatch_159 : decode cJ13_vectorizedMismatch 159 = .ok (.i2l, 1) := dk_133 (dk_at dksJ13_vectorizedMismatch_6 19 rfl rfl)
theorem dJ13_vectorizedMismatch_160 : decode cJ13_vectorizedMismatch 160 = .ok (.getstatic 20, 3) := dk_178 0 20 (dk_at dksJ13_vectorizedMismatch_6 20 rfl rfl)
theorem dJ13_vectorizedMismatch_163 : decode cJ13_vectorizedMismatch 163 = .ok (.lshl, 1) := dk_121 (dk_at dksJ13_vectorizedMismatch_6 23 rfl rfl)
theorem dJ13_vectorizedMismatch_164 : decode cJ13_vectorizedMismatch 164 = .ok (.lstore 12, 2) := dk_55 12 (dk_at dksJ13_vectorizedMismatch_7 0 rfl rfl)
theorem dJ13_vectorizedMismatch_166 : decode cJ13_vectorizedMismatch 166 = .ok (.getstatic 26, 3) := dk_178 0 26 (dk_at dksJ13_vectorizedMismatch_7 2 rfl rfl)
theorem dJ13_vectorizedMismatch_169 : decode cJ13_vectorizedMismatch 169 = .ok (.aload_n 0, 1) := dk_42 (dk_at dksJ13_vectorizedMismatch_7 5 rfl rfl)
theorem dJ13_vectorizedMismatch_170 : decode cJ13_vectorizedMismatch 170 = .ok (.lload_n 1, 1) := dk_31 (dk_at dksJ13_vectorizedMismatch_7 6 rfl rfl)
theorem dJ13_vectorizedMismatch_171 : decode cJ13_vectorizedMismatch 171 = .ok (.lload 12, 2) := dk_22 12 (dk_at dksJ13_vectorizedMismatch_7 7 rfl rfl)
theorem dJ13_vectorizedMismatch_173 : decode cJ13_vectorizedMismatch 173 = .ok (.ladd, 1) := dk_97 (dk_at dksJ13_vectorizedMismatch_7 9 rfl rfl)
theorem dJ13_vectorizedMismatch_174 : decode cJ13_vectorizedMismatch 174 = .ok (.invokevirtual 54, 3) := dk_182 0 54 (dk_at dksJ13_vectorizedMismatch_7 10 rfl rfl)
theorem dJ13_vectorizedMismatch_177 : decode cJ13_vectorizedMismatch 177 = .ok (.istore 14, 2) := dk_54 14 (dk_at dksJ13_vectorizedMismatch_7 13 rfl rfl)
theorem dJ13_vectorizedMismatch_179 : decode cJ13_vectorizedMismatch 179 = .ok (.getstatic 26, 3) := dk_178 0 26 (dk_at dksJ13_vectorizedMismatch_7 15 rfl rfl)
theorem dJ13_vectorizedMismatch_182 : decode cJ13_vectorizedMismatch 182 = .ok (.aload_n 3, 1) := dk_45 (dk_at dksJ13_vectorizedMismatch_7 18 rfl rfl)
theorem dJ13_vectorizedMismatch_183 : decode cJ13_vectorizedMismatch 183 = .ok (.lload 4, 2) := dk_22 4 (dk_at dksJ13_vectorizedMismatch_7 19 rfl rfl)
theorem dJ13_vectorizedMismatch_185 : decode cJ13_vectorizedMismatch 185 = .ok (.lload 12, 2) := dk_22 12 (dk_at dksJ13_vectorizedMismatch_7 21 rfl rfl)
theorem dJ13_vectorizedMismatch_187 : decode cJ13_vectorizedMismatch 187 = .ok (.ladd, 1) := dk_97 (dk_at dksJ13_vectorizedMismatch_7 23 rfl rfl)
theorem dJ13_vectorizedMismatch_188 : decode cJ13_vectorizedMismatch 188 = .ok (.invokevirtual 54, 3) := dk_182 0 54 (dk_at dksJ13_vectorizedMismatch_8 0 rfl rfl)
theorem dJ13_vectorizedMismatch_191 : decode cJ13_vectorizedMismatch 191 = .ok (.istore 15, 2) := dk_54 15 (dk_at dksJ13_vectorizedMismatch_8 3 rfl rfl)
theorem dJ13_vectorizedMismatch_193 : decode cJ13_vectorizedMismatch 193 = .ok (.iload 14, 2) := dk_21 14 (dk_at dksJ13_vectorizedMismatch_8 5 rfl rfl)
theorem dJ13_vectorizedMismatch_195 : decode cJ13_vectorizedMismatch 195 = .ok (.iload 15, 2) := dk_21 15 (dk_at dksJ13_vectorizedMismatch_8 7 rfl rfl)
theorem dJ13_vectorizedMismatch_197 : decode cJ13_vectorizedMismatch 197 = .ok (.if_icmp .eq 54, 3) := dk_159 0 54 (dk_at dksJ13_vectorizedMismatch_8 9 rfl rfl)
theorem dJ13_vectorizedMismatch_200 : decode cJ13_vectorizedMismatch 200 = .ok (.iload 14, 2) := dk_21 14 (dk_at dksJ13_vectorizedMismatch_8 12 rfl rfl)
theorem dJ13_vectorizedMismatch_202 : decode cJ13_vectorizedMismatch 202 = .ok (.iload 15, 2) := dk_21 15 (dk_at dksJ13_vectorizedMismatch_8 14 rfl rfl)
theorem dJ13_vectorizedMismatch_204 : decode cJ13_vectorizedMismatch 204 = .ok (.ixor, 1) := dk_130 (dk_at dksJ13_vectorizedMismatch_8 16 rfl rfl)
theorem dJ13_vectorizedMismatch_205 : decode cJ13_vectorizedMismatch 205 = .ok (.istore 16, 2) := dk_54 16 (dk_at dksJ13_vectorizedMismatch_8 17 rfl rfl)
theorem dJ13_vectorizedMismatch_207 : decode cJ13_vectorizedMismatch 207 = .ok (.getstatic 36, 3) := dk_178 0 36 (dk_at dksJ13_vectorizedMismatch_8 19 rfl rfl)
theorem dJ13_vectorizedMismatch_210 : decode cJ13_vectorizedMismatch 210 = .ok (.ifCond .eq 18, 3) := dk_153 0 18 (dk_at dksJ13_vectorizedMismatch_9 0 rfl rfl)
theorem dJ13_vectorizedMismatch_213 : decode cJ13_vectorizedMismatch 213 = .ok (.iload 16, 2) := dk_21 16 (dk_at dksJ13_vectorizedMismatch_9 3 rfl rfl)
theorem dJ13_vectorizedMismatch_215 : decode cJ13_vectorizedMismatch 215 = .ok (.invokestatic 58, 3) := dk_184 0 58 (dk_at dksJ13_vectorizedMismatch_9 5 rfl rfl)
theorem dJ13_vectorizedMismatch_218 : decode cJ13_vectorizedMismatch 218 = .ok (.getstatic 46, 3) := dk_178 0 46 (dk_at dksJ13_vectorizedMismatch_9 8 rfl rfl)
theorem dJ13_vectorizedMismatch_221 : decode cJ13_vectorizedMismatch 221 = .ok (.iload 7, 2) := dk_21 7 (dk_at dksJ13_vectorizedMismatch_9 11 rfl rfl)
theorem dJ13_vectorizedMismatch_223 : decode cJ13_vectorizedMismatch 223 = .ok (.iadd, 1) := dk_96 (dk_at dksJ13_vectorizedMismatch_9 13 rfl rfl)
theorem dJ13_vectorizedMismatch_224 : decode cJ13_vectorizedMismatch 224 = .ok (.ishr, 1) := dk_122 (dk_at dksJ13_vectorizedMismatch_9 14 rfl rfl)
theorem dJ13_vectorizedMismatch_225 : decode cJ13_vectorizedMismatch 225 = .ok (.goto 15, 3) := dk_167 0 15 (dk_at dksJ13_vectorizedMismatch_9 15 rfl rfl)
theorem dJ13_vectorizedMismatch_228 : decode cJ13_vectorizedMismatch 228 = .ok (.iload 16, 2) := dk_21 16 (dk_at dksJ13_vectorizedMismatch_9 18 rfl rfl)
theorem dJ13_vectorizedMismatch_230 : decode cJ13_vectorizedMismatch 230 = .ok (.invokestatic 11, 3) := dk_184 0 11 (dk_at dksJ13_vectorizedMismatch_9 20 rfl rfl)
theorem dJ13_vectorizedMismatch_233 : decode cJ13_vectorizedMismatch 233 = .ok (.getstatic 46, 3) := dk_178 0 46 (dk_at dksJ13_vectorizedMismatch_10 0 rfl rfl)
theorem dJ13_vectorizedMismatch_236 : decode cJ13_vectorizedMismatch 236 = .ok (.iload 7, 2) := dk_21 7 (dk_at dksJ13_vectorizedMismatch_10 3 rfl rfl)
theorem dJ13_vectorizedMismatch_238 : decode cJ13_vectorizedMismatch 238 = .ok (.iadd, 1) := dk_96 (dk_at dksJ13_vectorizedMismatch_10 5 rfl rfl)
theorem dJ13_vectorizedMismatch_239 : decode cJ13_vectorizedMismatch 239 = .ok (.ishr, 1) := dk_122 (dk_at dksJ13_vectorizedMismatch_10 6 rfl rfl)
theorem dJ13_vectorizedMismatch_240 : decode cJ13_vectorizedMismatch 240 = .ok (.istore 17, 2) := dk_54 17 (dk_at dksJ13_vectorizedMismatch_10 7 rfl rfl)
theorem dJ13_vectorizedMismatch_242 : decode cJ13_vectorizedMismatch 242 = .ok (.iload 9, 2) := dk_21 9 (dk_at dksJ13_vectorizedMismatch_10 9 rfl rfl)
theorem dJ13_vectorizedMismatch_244 : decode cJ13_vectorizedMismatch 244 = .ok (.iload 8, 2) := dk_21 8 (dk_at dksJ13_vectorizedMismatch_10 11 rfl rfl)
theorem dJ13_vectorizedMismatch_246 : decode cJ13_vectorizedMismatch 246 = .ok (.ishl, 1) := dk_120 (dk_at dksJ13_vectorizedMismatch_10 13 rfl rfl)
theorem dJ13_vectorizedMismatch_247 : decode cJ13_vectorizedMismatch 247 = .ok (.iload 17, 2) := dk_21 17 (dk_at dksJ13_vectorizedMismatch_10 14 rfl rfl)
theorem dJ13_vectorizedMismatch_249 : decode cJ13_vectorizedMismatch 249 = .ok (.iadd, 1) := dk_96 (dk_at dksJ13_vectorizedMismatch_10 16 rfl rfl)
theorem dJ13_vectorizedMismatch_250 : decode cJ13_vectorizedMismatch 250 = .ok (.ireturn, 1) := dk_172 (dk_at dksJ13_vectorizedMismatch_10 17 rfl rfl)
theorem dJ13_vectorizedMismatch_251 : decode cJ13_vectorizedMismatch 251 = .ok (.iload 10, 2) := dk_21 10 (dk_at dksJ13_vectorizedMismatch_10 18 rfl rfl)
theorem dJ13_vectorizedMismatch_253 : decode cJ13_vectorizedMismatch 253 = .ok (.iload 11, 2) := dk_21 11 (dk_at dksJ13_vectorizedMismatch_10 20 rfl rfl)
theorem dJ13_vectorizedMismatch_255 : decode cJ13_vectorizedMismatch 255 = .ok (.isub, 1) := dk_100 (dk_at dksJ13_vectorizedMismatch_10 22 rfl rfl)
theorem dJ13_vectorizedMismatch_256 : decode cJ13_vectorizedMismatch 256 = .ok (.istore 10, 2) := dk_54 10 (dk_at dksJ13_vectorizedMismatch_11 0 rfl rfl)
theorem dJ13_vectorizedMismatch_258 : decode cJ13_vectorizedMismatch 258 = .ok (.iload 10, 2) := dk_21 10 (dk_at dksJ13_vectorizedMismatch_11 2 rfl rfl)
theorem dJ13_vectorizedMismatch_260 : decode cJ13_vectorizedMismatch 260 = .ok (.iconst (-1), 1) := dk_2 (dk_at dksJ13_vectorizedMismatch_11 4 rfl rfl)
theorem dJ13_vectorizedMismatch_261 : decode cJ13_vectorizedMismatch 261 = .ok (.ixor, 1) := dk_130 (dk_at dksJ13_vectorizedMismatch_11 5 rfl rfl)
theorem dJ13_vectorizedMismatch_262 : decode cJ13_vectorizedMismatch 262 = .ok (.ireturn, 1) := dk_172 (dk_at dksJ13_vectorizedMismatch_11 6 rfl rfl)
theorem dJ13_vectorizedMismatch_263 : decode cJ13_vectorizedMismatch 263 = .ok (.iload 10, 2) := dk_21 10 (dk_at dksJ13_vectorizedMismatch_11 7 rfl rfl)
theorem dJ13_vectorizedMismatch_265 : decode cJ13_vectorizedMismatch 265 = .ok (.iconst (-1), 1) := dk_2 (dk_at dksJ13_vectorizedMismatch_11 9 rfl rfl)
theorem dJ13_vectorizedMismatch_266 : decode cJ13_vectorizedMismatch 266 = .ok (.ixor, 1) := dk_130 (dk_at dksJ13_vectorizedMismatch_11 10 rfl rfl)
theorem dJ13_vectorizedMismatch_267 : decode cJ13_vectorizedMismatch 267 = .ok (.ireturn, 1) := dk_172 (dk_at dksJ13_vectorizedMismatch_11 11 rfl rfl)
theorem q89 : (Jvm.Cond.initialized "jdk/internal/util/ArraysSupport") ∈ lw_all := lw_g (lw_at lw_m1 17 rfl) rfl
theorem q476 : (Jvm.Cond.static ({ cls := "jdk/internal/util/ArraysSupport", name := "newLength", desc := "(III)I" } : Jvm.MethodName)) ∈ lw_all := lw_g (lw_at lw_m2 164 rfl) rfl
theorem q477 : (Jvm.Cond.code ({ cls := "jdk/internal/util/ArraysSupport", name := "newLength", desc := "(III)I" } : Jvm.MethodName) prog_86_method_27_code (4 : Nat) (Option.some Jvm.ClassFile.FieldType.int)) ∈ lw_all := lw_g (lw_at lw_m2 165 rfl) rfl
theorem q478 : (Jvm.Cond.methodLink "jdk/internal/util/ArraysSupport" (194 : Nat) ({ cls := "java/lang/Math", name := "max", desc := "(II)I" } : Jvm.MethodName)) ∈ lw_all := lw_g (lw_at lw_m2 166 rfl) rfl
theorem q481 : (Jvm.Cond.constant "jdk/internal/util/ArraysSupport" (200 : Nat) (2147483639 : Int32)) ∈ lw_all := lw_g (lw_at lw_m2 169 rfl) rfl
theorem q482 : (Jvm.Cond.methodLink "jdk/internal/util/ArraysSupport" (201 : Nat) ({ cls := "jdk/internal/util/ArraysSupport", name := "hugeLength", desc := "(II)I" } : Jvm.MethodName)) ∈ lw_all := lw_g (lw_at lw_m2 170 rfl) rfl
theorem q483 : (Jvm.Cond.static ({ cls := "jdk/internal/util/ArraysSupport", name := "hugeLength", desc := "(II)I" } : Jvm.MethodName)) ∈ lw_all := lw_g (lw_at lw_m2 171 rfl) rfl
theorem q484 : (Jvm.Cond.code ({ cls := "jdk/internal/util/ArraysSupport", name := "hugeLength", desc := "(II)I" } : Jvm.MethodName) prog_86_method_28_code (3 : Nat) (Option.some Jvm.ClassFile.FieldType.int)) ∈ lw_all := lw_g (lw_at lw_m2 172 rfl) rfl
theorem q1862 : (Jvm.Cond.static ({ cls := "jdk/internal/util/ArraysSupport", name := "vectorizedHashCode", desc := "(Ljava/lang/Object;IIII)I" } : Jvm.MethodName)) ∈ lw_all := lw_g (lw_at lw_m8 110 rfl) rfl
theorem q1863 : (Jvm.Cond.code ({ cls := "jdk/internal/util/ArraysSupport", name := "vectorizedHashCode", desc := "(Ljava/lang/Object;IIII)I" } : Jvm.MethodName) prog_86_method_4_code (5 : Nat) (Option.some Jvm.ClassFile.FieldType.int)) ∈ lw_all := lw_g (lw_at lw_m8 111 rfl) rfl
theorem q1864 : (Jvm.Cond.classLink "jdk/internal/util/ArraysSupport" (60 : Nat) "[B") ∈ lw_all := lw_g (lw_at lw_m8 112 rfl) rfl
theorem q1865 : (Jvm.Cond.methodLink "jdk/internal/util/ArraysSupport" (62 : Nat) ({ cls := "jdk/internal/util/ArraysSupport", name := "signedHashCode", desc := "(I[BII)I" } : Jvm.MethodName)) ∈ lw_all := lw_g (lw_at lw_m8 113 rfl) rfl
theorem q1866 : (Jvm.Cond.static ({ cls := "jdk/internal/util/ArraysSupport", name := "signedHashCode", desc := "(I[BII)I" } : Jvm.MethodName)) ∈ lw_all := lw_g (lw_at lw_m8 114 rfl) rfl
theorem q1867 : (Jvm.Cond.code ({ cls := "jdk/internal/util/ArraysSupport", name := "signedHashCode", desc := "(I[BII)I" } : Jvm.MethodName) prog_86_method_5_code (6 : Nat) (Option.some Jvm.ClassFile.FieldType.int)) ∈ lw_all := lw_g (lw_at lw_m8 115 rfl) rfl
theorem q1868 : (Jvm.Cond.methodLink "jdk/internal/util/ArraysSupport" (66 : Nat) ({ cls := "jdk/internal/util/ArraysSupport", name := "utf16hashCode", desc := "(I[BII)I" } : Jvm.MethodName)) ∈ lw_all := lw_g (lw_at lw_m8 116 rfl) rfl
theorem q1869 : (Jvm.Cond.static ({ cls := "jdk/internal/util/ArraysSupport", name := "utf16hashCode", desc := "(I[BII)I" } : Jvm.MethodName)) ∈ lw_all := lw_g (lw_at lw_m8 117 rfl) rfl
theorem q1870 : (Jvm.Cond.code ({ cls := "jdk/internal/util/ArraysSupport", name := "utf16hashCode", desc := "(I[BII)I" } : Jvm.MethodName) prog_86_method_10_code (6 : Nat) (Option.some Jvm.ClassFile.FieldType.int)) ∈ lw_all := lw_g (lw_at lw_m8 118 rfl) rfl
theorem q1871 : (Jvm.Cond.fieldLink "jdk/internal/util/ArraysSupport" (106 : Nat) "jdk/internal/util/ArraysSupport" "JLA" "Ljdk/internal/access/JavaLangAccess;") ∈ lw_all := lw_g (lw_at lw_m8 119 rfl) rfl
theorem q1872 : (Jvm.Cond.laysStatic "jdk/internal/util/ArraysSupport" "JLA" "Ljdk/internal/access/JavaLangAccess;") ∈ lw_tbl := lw_at lw_m8 120 rfl
theorem q1873 : (Jvm.Cond.interfaceEntry "jdk/internal/util/ArraysSupport" (110 : Nat)) ∈ lw_tbl := lw_at lw_m8 121 rfl
theorem q1874 : (Jvm.Cond.methodLink "jdk/internal/util/ArraysSupport" (110 : Nat) ({ cls := "jdk/internal/access/JavaLangAccess", name := "getUTF16Char", desc := "([BI)C" } : Jvm.MethodName)) ∈ lw_all := lw_g (lw_at lw_m8 122 rfl) rfl
theorem q1884 : (Jvm.Cond.classLink "jdk/internal/util/ArraysSupport" (69 : Nat) "[C") ∈ lw_all := lw_g (lw_at lw_m8 132 rfl) rfl
theorem q1885 : (Jvm.Cond.methodLink "jdk/internal/util/ArraysSupport" (71 : Nat) ({ cls := "jdk/internal/util/ArraysSupport", name := "hashCode", desc := "(I[CII)I" } : Jvm.MethodName)) ∈ lw_all := lw_g (lw_at lw_m8 133 rfl) rfl
theorem q1886 : (Jvm.Cond.static ({ cls := "jdk/internal/util/ArraysSupport", name := "hashCode", desc := "(I[CII)I" } : Jvm.MethodName)) ∈ lw_all := lw_g (lw_at lw_m8 134 rfl) rfl
theorem q1887 : (Jvm.Cond.code ({ cls := "jdk/internal/util/ArraysSupport", name := "hashCode", desc := "(I[CII)I" } : Jvm.MethodName) prog_86_method_7_code (6 : Nat) (Option.some Jvm.ClassFile.FieldType.int)) ∈ lw_all := lw_g (lw_at lw_m8 135 rfl) rfl
theorem q1888 : (Jvm.Cond.methodLink "jdk/internal/util/ArraysSupport" (75 : Nat) ({ cls := "jdk/internal/util/ArraysSupport", name := "hashCode", desc := "(I[BII)I" } : Jvm.MethodName)) ∈ lw_all := lw_g (lw_at lw_m8 136 rfl) rfl
theorem q1889 : (Jvm.Cond.static ({ cls := "jdk/internal/util/ArraysSupport", name := "hashCode", desc := "(I[BII)I" } : Jvm.MethodName)) ∈ lw_all := lw_g (lw_at lw_m8 137 rfl) rfl
theorem q1890 : (Jvm.Cond.code ({ cls := "jdk/internal/util/ArraysSupport", name := "hashCode", desc := "(I[BII)I" } : Jvm.MethodName) prog_86_method_6_code (6 : Nat) (Option.some Jvm.ClassFile.FieldType.int)) ∈ lw_all := lw_g (lw_at lw_m8 138 rfl) rfl
theorem q1891 : (Jvm.Cond.classLink "jdk/internal/util/ArraysSupport" (77 : Nat) "[S") ∈ lw_all := lw_g (lw_at lw_m8 139 rfl) rfl
theorem q1892 : (Jvm.Cond.methodLink "jdk/internal/util/ArraysSupport" (79 : Nat) ({ cls := "jdk/internal/util/ArraysSupport", name := "hashCode", desc := "(I[SII)I" } : Jvm.MethodName)) ∈ lw_all := lw_g (lw_at lw_m8 140 rfl) rfl
theorem q1893 : (Jvm.Cond.static ({ cls := "jdk/internal/util/ArraysSupport", name := "hashCode", desc := "(I[SII)I" } : Jvm.MethodName)) ∈ lw_all := lw_g (lw_at lw_m8 141 rfl) rfl
theorem q1894 : (Jvm.Cond.code ({ cls := "jdk/internal/util/ArraysSupport", name := "hashCode", desc := "(I[SII)I" } : Jvm.MethodName) prog_86_method_8_code (6 : Nat) (Option.some Jvm.ClassFile.FieldType.int)) ∈ lw_all := lw_g (lw_at lw_m8 142 rfl) rfl
theorem q1895 : (Jvm.Cond.classLink "jdk/internal/util/ArraysSupport" (82 : Nat) "[I") ∈ lw_all := lw_g (lw_at lw_m8 143 rfl) rfl
theorem q1896 : (Jvm.Cond.methodLink "jdk/internal/util/ArraysSupport" (84 : Nat) ({ cls := "jdk/internal/util/ArraysSupport", name := "hashCode", desc := "(I[III)I" } : Jvm.MethodName)) ∈ lw_all := lw_g (lw_at lw_m8 144 rfl) rfl
theorem q1897 : (Jvm.Cond.static ({ cls := "jdk/internal/util/ArraysSupport", name := "hashCode", desc := "(I[III)I" } : Jvm.MethodName)) ∈ lw_all := lw_g (lw_at lw_m8 145 rfl) rfl
theorem q1898 : (Jvm.Cond.code ({ cls := "jdk/internal/util/ArraysSupport", name := "hashCode", desc := "(I[III)I" } : Jvm.MethodName) prog_86_method_9_code (6 : Nat) (Option.some Jvm.ClassFile.FieldType.int)) ∈ lw_all := lw_g (lw_at lw_m8 146 rfl) rfl
theorem q1899 : (Jvm.Cond.classLink "jdk/internal/util/ArraysSupport" (87 : Nat) "java/lang/IllegalArgumentException") ∈ lw_all := lw_g (lw_at lw_m8 147 rfl) rfl
theorem q1900 : (Jvm.Cond.classLink "jdk/internal/util/ArraysSupport" (89 : Nat) "java/lang/StringBuilder") ∈ lw_all := lw_g (lw_at lw_m8 148 rfl) rfl
theorem q1901 : (Jvm.Cond.methodLink "jdk/internal/util/ArraysSupport" (91 : Nat) ({ cls := "java/lang/StringBuilder", name := "<init>", desc := "()V" } : Jvm.MethodName)) ∈ lw_all := lw_g (lw_at lw_m8 149 rfl) rfl
theorem q1902 : (Jvm.Cond.stringRef "jdk/internal/util/ArraysSupport" (92 : Nat) "unrecognized basic type: ") ∈ lw_tbl := lw_at lw_m8 150 rfl
theorem q1903 : (Jvm.Cond.methodLink "jdk/internal/util/ArraysSupport" (94 : Nat) ({ cls := "java/lang/StringBuilder", name := "append", desc := "(Ljava/lang/String;)Ljava/lang/StringBuilder;" } : Jvm.MethodName)) ∈ lw_all := lw_g (lw_at lw_m8 151 rfl) rfl
theorem q1904 : (Jvm.Cond.methodLink "jdk/internal/util/ArraysSupport" (98 : Nat) ({ cls := "java/lang/StringBuilder", name := "append", desc := "(I)Ljava/lang/StringBuilder;" } : Jvm.MethodName)) ∈ lw_all := lw_g (lw_at lw_m8 152 rfl) rfl
theorem q1905 : (Jvm.Cond.methodLink "jdk/internal/util/ArraysSupport" (101 : Nat) ({ cls := "java/lang/StringBuilder", name := "toString", desc := "()Ljava/lang/String;" } : Jvm.MethodName)) ∈ lw_all := lw_g (lw_at lw_m8 153 rfl) rfl
theorem q1906 : (Jvm.Cond.methodLink "jdk/internal/util/ArraysSupport" (105 : Nat) ({ cls := "java/lang/IllegalArgumentException", name := "<init>", desc := "(Ljava/lang/String;)V" } : Jvm.MethodName)) ∈ lw_all := lw_g (lw_at lw_m8 154 rfl) rfl
theorem q2058 : (Jvm.Cond.static ({ cls := "jdk/internal/util/ArraysSupport", name := "mismatch", desc := "([B[BI)I" } : Jvm.MethodName)) ∈ lw_all := lw_g (lw_at lw_m9 66 rfl) rfl
theorem q2059 : (Jvm.Cond.code ({ cls := "jdk/internal/util/ArraysSupport", name := "mismatch", desc := "([B[BI)I" } : Jvm.MethodName) prog_86_method_13_code (4 : Nat) (Option.some Jvm.ClassFile.FieldType.int)) ∈ lw_all := lw_g (lw_at lw_m9 67 rfl) rfl
theorem q2060 : (Jvm.Cond.fieldLink "jdk/internal/util/ArraysSupport" (126 : Nat) "jdk/internal/misc/Unsafe" "ARRAY_BYTE_BASE_OFFSET" "I") ∈ lw_all := lw_g (lw_at lw_m9 68 rfl) rfl
theorem q2062 : (Jvm.Cond.fieldLink "jdk/internal/util/ArraysSupport" (129 : Nat) "jdk/internal/util/ArraysSupport" "LOG2_ARRAY_BYTE_INDEX_SCALE" "I") ∈ lw_all := lw_g (lw_at lw_m9 70 rfl) rfl
theorem q2063 : (Jvm.Cond.laysStatic "jdk/internal/util/ArraysSupport" "LOG2_ARRAY_BYTE_INDEX_SCALE" "I") ∈ lw_tbl := lw_at lw_m9 71 rfl
theorem q2064 : (Jvm.Cond.methodLink "jdk/internal/util/ArraysSupport" (122 : Nat) ({ cls := "jdk/internal/util/ArraysSupport", name := "vectorizedMismatch", desc := "(Ljava/lang/Object;JLjava/lang/Object;JII)I" } : Jvm.MethodName)) ∈ lw_all := lw_g (lw_at lw_m9 72 rfl) rfl
theorem q2065 : (Jvm.Cond.static ({ cls := "jdk/internal/util/ArraysSupport", name := "vectorizedMismatch", desc := "(Ljava/lang/Object;JLjava/lang/Object;JII)I" } : Jvm.MethodName)) ∈ lw_all := lw_g (lw_at lw_m9 73 rfl) rfl
theorem q2066 : (Jvm.Cond.code ({ cls := "jdk/internal/util/ArraysSupport", name := "vectorizedMismatch", desc := "(Ljava/lang/Object;JLjava/lang/Object;JII)I" } : Jvm.MethodName) prog_86_method_3_code (19 : Nat) (Option.some Jvm.ClassFile.FieldType.int)) ∈ lw_all := lw_g (lw_at lw_m9 74 rfl) rfl
theorem q2067 : (Jvm.Cond.fieldLink "jdk/internal/util/ArraysSupport" (20 : Nat) "jdk/internal/util/ArraysSupport" "LOG2_ARRAY_LONG_INDEX_SCALE" "I") ∈ lw_all := lw_g (lw_at lw_m9 75 rfl) rfl
theorem q2068 : (Jvm.Cond.laysStatic "jdk/internal/util/ArraysSupport" "LOG2_ARRAY_LONG_INDEX_SCALE" "I") ∈ lw_tbl := lw_at lw_m9 76 rfl
theorem q2069 : (Jvm.Cond.fieldLink "jdk/internal/util/ArraysSupport" (26 : Nat) "jdk/internal/util/ArraysSupport" "U" "Ljdk/internal/misc/Unsafe;") ∈ lw_all := lw_g (lw_at lw_m9 77 rfl) rfl
theorem q2070 : (Jvm.Cond.laysStatic "jdk/internal/util/ArraysSupport" "U" "Ljdk/internal/misc/Unsafe;") ∈ lw_tbl := lw_at lw_m9 78 rfl
theorem q2071 : (Jvm.Cond.methodLink "jdk/internal/util/ArraysSupport" (30 : Nat) ({ cls := "jdk/internal/misc/Unsafe", name := "getLongUnaligned", desc := "(Ljava/lang/Object;J)J" } : Jvm.MethodName)) ∈ lw_all := lw_g (lw_at lw_m9 79 rfl) rfl
theorem q2123 : (Jvm.Cond.fieldLink "jdk/internal/util/ArraysSupport" (36 : Nat) "jdk/internal/util/ArraysSupport" "BIG_ENDIAN" "Z") ∈ lw_all := lw_g (lw_at lw_m9 131 rfl) rfl
theorem q2124 : (Jvm.Cond.laysStatic "jdk/internal/util/ArraysSupport" "BIG_ENDIAN" "Z") ∈ lw_tbl := lw_at lw_m9 132 rfl
theorem q2125 : (Jvm.Cond.methodLink "jdk/internal/util/ArraysSupport" (40 : Nat) ({ cls := "java/lang/Long", name := "numberOfLeadingZeros", desc := "(J)I" } : Jvm.MethodName)) ∈ lw_all := lw_g (lw_at lw_m9 133 rfl) rfl
theorem q2132 : (Jvm.Cond.fieldLink "jdk/internal/util/ArraysSupport" (46 : Nat) "jdk/internal/util/ArraysSupport" "LOG2_BYTE_BIT_SIZE" "I") ∈ lw_all := lw_g (lw_at lw_m9 140 rfl) rfl
theorem q2133 : (Jvm.Cond.laysStatic "jdk/internal/util/ArraysSupport" "LOG2_BYTE_BIT_SIZE" "I") ∈ lw_tbl := lw_at lw_m9 141 rfl
theorem q2134 : (Jvm.Cond.methodLink "jdk/internal/util/ArraysSupport" (49 : Nat) ({ cls := "java/lang/Long", name := "numberOfTrailingZeros", desc := "(J)I" } : Jvm.MethodName)) ∈ lw_all := lw_g (lw_at lw_m9 142 rfl) rfl
theorem q2140 : (Jvm.Cond.fieldLink "jdk/internal/util/ArraysSupport" (51 : Nat) "jdk/internal/util/ArraysSupport" "LOG2_ARRAY_INT_INDEX_SCALE" "I") ∈ lw_all := lw_g (lw_at lw_m9 148 rfl) rfl
theorem q2141 : (Jvm.Cond.laysStatic "jdk/internal/util/ArraysSupport" "LOG2_ARRAY_INT_INDEX_SCALE" "I") ∈ lw_tbl := lw_at lw_m9 149 rfl
theorem q2142 : (Jvm.Cond.methodLink "jdk/internal/util/ArraysSupport" (54 : Nat) ({ cls := "jdk/internal/misc/Unsafe", name := "getIntUnaligned", desc := "(Ljava/lang/Object;J)I" } : Jvm.MethodName)) ∈ lw_all := lw_g (lw_at lw_m9 150 rfl) rfl
theorem q2159 : (Jvm.Cond.methodLink "jdk/internal/util/ArraysSupport" (58 : Nat) ({ cls := "java/lang/Integer", name := "numberOfLeadingZeros", desc := "(I)I" } : Jvm.MethodName)) ∈ lw_all := lw_g (lw_at lw_m9 167 rfl) rfl
theorem q2160 : (Jvm.Cond.methodLink "jdk/internal/util/ArraysSupport" (11 : Nat) ({ cls := "java/lang/Integer", name := "numberOfTrailingZeros", desc := "(I)I" } : Jvm.MethodName)) ∈ lw_all := lw_g (lw_at lw_m9 168 rfl) rfl
/-! java/lang/Math -/
set_option maxRecDepth 100000
def RJ14 : String := "java/lang/Math"
abbrev cJ14_max : ByteArray := prog_44_method_65_code
def yJ14_max : MethodName := ⟨RJ14, "max", "(II)I"⟩
def dkwJ14_max_0 : List UInt8 := [26, 27, 161, 0, 7, 26, 167, 0, 4, 27, 172]
abbrev dktJ14_max_0 : List UInt8 := dkwJ14_max_0 ++ []
theorem dksJ14_max_0 : cJ14_max.data.toList.drop 0 = dktJ14_max_0 := by decide +kernel
theorem dJ14_max_0 : decode cJ14_max 0 = .ok (.iload_n 0, 1) := dk_26 (dk_at dksJ14_max_0 0 rfl rfl)
theorem dJ14_max_1 : decode cJ14_max 1 = .ok (.iload_n 1, 1) := dk_27 (dk_at dksJ14_max_0 1 rfl rfl)
theorem dJ14_max_2 : decode cJ14_max 2 = .ok (.if_icmp .lt 7, 3) := dk_161 0 7 (dk_at dksJ14_max_0 2 rfl rfl)
theorem dJ14_max_5 : decode cJ14_max 5 = .ok (.iload_n 0, 1) := dk_26 (dk_at dksJ14_max_0 5 rfl rfl)
theorem dJ14_max_6 : decode cJ14_max 6 = .ok (.goto 4, 3) := dk_167 0 4 (dk_at dksJ14_max_0 6 rfl rfl)
theorem dJ14_max_9 : decode cJ14_max 9 = .ok (.iload_n 1, 1) := dk_27 (dk_at dksJ14_max_0 9 rfl rfl)
theorem dJ14_max_10 : decode cJ14_max 10 = .ok (.ireturn, 1) := dk_172 (dk_at dksJ14_max_0 10 rfl rfl)
abbrev cJ14_min : ByteArray := prog_44_method_69_code
def yJ14_min : MethodName := ⟨RJ14, "min", "(II)I"⟩
def dkwJ14_min_0 : List UInt8 := [26, 27, 163, 0, 7, 26, 167, 0, 4, 27, 172]
abbrev dktJ14_min_0 : List UInt8 := dkwJ14_min_0 ++ []
theorem dksJ14_min_0 : cJ14_min.data.toList.drop 0 = dktJ14_min_0 := by decide +kernel
theorem dJ14_min_0 : decode cJ14_min 0 = .ok (.iload_n 0, 1) := dk_26 (dk_at dksJ14_min_0 0 rfl rfl)
theorem dJ14_min_1 : decode cJ14_min 1 = .ok (.iload_n 1, 1) := dk_27 (dk_at dksJ14_min_0 1 rfl rfl)
theorem dJ14_min_2 : decode cJ14_min 2 = .ok (.if_icmp .gt 7, 3) := dk_163 0 7 (dk_at dksJ14_min_0 2 rfl rfl)
theorem dJ14_min_5 : decode cJ14_min 5 = .ok (.iload_n 0, 1) := dk_26 (dk_at dksJ14_min_0 5 rfl rfl)
theorem dJ14_min_6 : decode cJ14_min 6 = .ok (.goto 4, 3) := dk_167 0 4 (dk_at dksJ14_min_0 6 rfl rfl)
theorem dJ14_min_9 : decode cJ14_min 9 = .ok (.iload_n 1, 1) := dk_27 (dk_at dksJ14_min_0 9 rfl rfl)
theorem dJ14_min_10 : decode cJ14_min 10 = .ok (.ireturn, 1) := dk_172 (dk_at dksJ14_min_0 10 rfl rfl)
abbrev cJ14_addExact : ByteArray := prog_44_method_24_code
def yJ14_addExact : MethodName := ⟨RJ14, "addExact", "(II)I"⟩
def dkwJ14_addExact_1 : List UInt8 := [28, 172]
abbrev dktJ14_addExact_1 : List UInt8 := dkwJ14_addExact_1 ++ []
def dkwJ14_addExact_0 : List UInt8 := [26, 27, 96, 61, 26, 28, 130, 27, 28, 130, 126, 156, 0, 13, 187, 0, 109, 89, 18, 111, 183, 0, 113, 191]
abbrev dktJ14_addExact_0 : List UInt8 := dkwJ14_addExact_0 ++ dktJ14_addExact_1
theorem dksJ14_addExact_0 : cJ14_addExact.data.toList.drop 0 = dktJ14_addExact_0 := by decide +kernel
theorem dksJ14_addExact_1 : cJ14_addExact.data.toList.drop 24 = dktJ14_addExact_1 := dk_seg dksJ14_addExact_0 24 rfl rfl
theorem dJ14_addExact_0 : decode cJ14_addExact 0 = .ok (.iload_n 0, 1) := dk_26 (dk_at dksJ14_addExact_0 0 rfl rfl)
theorem dJ14_addExact_1 : decode cJ14_addExact 1 = .ok (.iload_n 1, 1) := dk_27 (dk_at dksJ14_addExact_0 1 rfl rfl)
theorem dJ14_addExact_2 : decode cJ14_addExact 2 = .ok (.iadd, 1) := dk_96 (dk_at dksJ14_addExact_0 2 rfl rfl)
theorem dJ14_addExact_3 : decode cJ14_addExact 3 = .ok (.istore_n 2, 1) := dk_61 (dk_at dksJ14_addExact_0 3 rfl rfl)
theorem dJ14_addExact_4 : decode cJ14_addExact 4 = .ok (.iload_n 0, 1) := dk_26 (dk_at dksJ14_addExact_0 4 rfl rfl)
theorem dJ14_addExact_5 : decode cJ14_addExact 5 = .ok (.iload_n 2, 1) := dk_28 (dk_at dksJ14_addExact_0 5 rfl rfl)
theorem dJ14_addExact_6 : decode cJ14_addExact 6 = .ok (.ixor, 1) := dk_130 (dk_at dksJ14_addExact_0 6 rfl rfl)
theorem dJ14_addExact_7 : decode cJ14_addExact 7 = .ok (.iload_n 1, 1) := dk_27 (dk_at dksJ14_addExact_0 7 rfl rfl)
theorem dJ14_addExact_8 : decode cJ14_addExact 8 = .ok (.iload_n 2, 1) := dk_28 (dk_at dksJ14_addExact_0 8 rfl rfl)
theorem dJ14_addExact_9 : decode cJ14_addExact 9 = .ok (.ixor, 1) := dk_130 (dk_at dksJ14_addExact_0 9 rfl rfl)
theorem dJ14_addExact_10 : decode cJ14_addExact 10 = .ok (.iand, 1) := dk_126 (dk_at dksJ14_addExact_0 10 rfl rfl)
theorem dJ14_addExact_11 : decode cJ14_addExact 11 = .ok (.ifCond .ge 13, 3) := dk_156 0 13 (dk_at dksJ14_addExact_0 11 rfl rfl)
theorem dJ14_addExact_14 : decode cJ14_addExact 14 = .ok (.new 109, 3) := dk_187 0 109 (dk_at dksJ14_addExact_0 14 rfl rfl)
theorem dJ14_addExact_17 : decode cJ14_addExact 17 = .ok (.dup, 1) := dk_89 (dk_at dksJ14_addExact_0 17 rfl rfl)
theorem dJ14_addExact_18 : decode cJ14_addExact 18 = .ok (.ldc 111, 2) := dk_18 111 (dk_at dksJ14_addExact_0 18 rfl rfl)
theorem dJ14_addExact_20 : decode cJ14_addExact 20 = .ok (.invokespecial 113, 3) := dk_183 0 113 (dk_at dksJ14_addExact_0 20 rfl rfl)
theorem dJ14_addExact_23 : decode cJ14_addExact 23 = .ok (.athrow, 1) := dk_191 (dk_at dksJ14_addExact_0 23 rfl rfl)
theorem dJ14_addExact_24 : decode cJ14_addExact 24 = .ok (.iload_n 2, 1) := dk_28 (dk_at dksJ14_addExact_1 0 rfl rfl)
theorem dJ14_addExact_25 : decode cJ14_addExact 25 = .ok (.ireturn, 1) := dk_172 (dk_at dksJ14_addExact_1 1 rfl rfl)
abbrev cJ14_multiplyExact : ByteArray := prog_44_method_28_code
def yJ14_multiplyExact : MethodName := ⟨RJ14, "multiplyExact", "(II)I"⟩
def dkwJ14_multiplyExact_1 : List UInt8 := [32, 136, 172]
abbrev dktJ14_multiplyExact_1 : List UInt8 := dkwJ14_multiplyExact_1 ++ []
def dkwJ14_multiplyExact_0 : List UInt8 := [26, 133, 27, 133, 105, 65, 32, 136, 133, 32, 148, 153, 0, 13, 187, 0, 109, 89, 18, 111, 183, 0, 113, 191]
abbrev dktJ14_multiplyExact_0 : List UInt8 := dkwJ14_multiplyExact_0 ++ dktJ14_multiplyExact_1
theorem dksJ14_multiplyExact_0 : cJ14_multiplyExact.data.toList.drop 0 = dktJ14_multiplyExact_0 := by decide +kernel
theorem dksJ14_multiplyExact_1 : cJ14_multiplyExact.data.toList.drop 24 = dktJ14_multiplyExact_1 := dk_seg dksJ14_multiplyExact_0 24 rfl rfl
theorem dJ14_multiplyExact_0 : decode cJ14_multiplyExact 0 = .ok (.iload_n 0, 1) := dk_26 (dk_at dksJ14_multiplyExact_0 0 rfl rfl)
theorem dJ14_multiplyExact_1 : decode cJ14_multiplyExact 1 = .ok (.i2l, 1) := dk_133 (dk_at dksJ14_multiplyExact_0 1 rfl rfl)
theorem dJ14_multiplyExact_2 : decode cJ14_multiplyExact 2 = .ok (.iload_n 1, 1) := dk_27 (dk_at dksJ14_multiplyExact_0 2 rfl rfl)
theorem dJ14_multiplyExact_3 : decode cJ14_multiplyExact 3 = .ok (.i2l, 1) := dk_133 (dk_at dksJ14_multiplyExact_0 3 rfl rfl)
theorem dJ14_multiplyExact_4 : decode cJ14_multiplyExact 4 = .ok (.lmul, 1) := dk_105 (dk_at dksJ14_multiplyExact_0 4 rfl rfl)
theorem dJ14_multiplyExact_5 : decode cJ14_multiplyExact 5 = .ok (.lstore_n 2, 1) := dk_65 (dk_at dksJ14_multiplyExact_0 5 rfl rfl)
theorem dJ14_multiplyExact_6 : decode cJ14_multiplyExact 6 = .ok (.lload_n 2, 1) := dk_32 (dk_at dksJ14_multiplyExact_0 6 rfl rfl)
theorem dJ14_multiplyExact_7 : decode cJ14_multiplyExact 7 = .ok (.l2i, 1) := dk_136 (dk_at dksJ14_multiplyExact_0 7 rfl rfl)
theorem dJ14_multiplyExact_8 : decode cJ14_multiplyExact 8 = .ok (.i2l, 1) := dk_133 (dk_at dksJ14_multiplyExact_0 8 rfl rfl)
theorem dJ14_multiplyExact_9 : decode cJ14_multiplyExact 9 = .ok (.lload_n 2, 1) := dk_32 (dk_at dksJ14_multiplyExact_0 9 rfl rfl)
theorem dJ14_multiplyExact_10 : decode cJ14_multiplyExact 10 = .ok (.lcmp, 1) := dk_148 (dk_at dksJ14_multiplyExact_0 10 rfl rfl)
theorem dJ14_multiplyExact_11 : decode cJ14_multiplyExact 11 = .ok (.ifCond .eq 13, 3) := dk_153 0 13 (dk_at dksJ14_multiplyExact_0 11 rfl rfl)
theorem dJ14_multiplyExact_14 : decode cJ14_multiplyExact 14 = .ok (.new 109, 3) := dk_187 0 109 (dk_at dksJ14_multiplyExact_0 14 rfl rfl)
theorem dJ14_multiplyExact_17 : decode cJ14_multiplyExact 17 = .ok (.dup, 1) := dk_89 (dk_at dksJ14_multiplyExact_0 17 rfl rfl)
theorem dJ14_multiplyExact_18 : decode cJ14_multiplyExact 18 = .ok (.ldc 111, 2) := dk_18 111 (dk_at dksJ14_multiplyExact_0 18 rfl rfl)
theorem dJ14_multiplyExact_20 : decode cJ14_multiplyExact 20 = .ok (.invokespecial 113, 3) := dk_183 0 113 (dk_at dksJ14_multiplyExact_0 20 rfl rfl)
theorem dJ14_multiplyExact_23 : decode cJ14_multiplyExact 23 = .ok (.athrow, 1) := dk_191 (dk_at dksJ14_multiplyExact_0 23 rfl rfl)
theorem dJ14_multiplyExact_24 : decode cJ14_multiplyExact 24 = .ok (.lload_n 2, 1) := dk_32 (dk_at dksJ14_multiplyExact_1 0 rfl rfl)
theorem dJ14_multiplyExact_25 : decode cJ14_multiplyExact 25 = .ok (.l2i, 1) := dk_136 (dk_at dksJ14_multiplyExact_1 1 rfl rfl)
theorem dJ14_multiplyExact_26 : decode cJ14_multiplyExact 26 = .ok (.ireturn, 1) := dk_172 (dk_at dksJ14_multiplyExact_1 2 rfl rfl)
theorem q90 : (Jvm.Cond.initialized "java/lang/Math") ∈ lw_all := lw_g (lw_at lw_m1 18 rfl) rfl
theorem q479 : (Jvm.Cond.static ({ cls := "java/lang/Math", name := "max", desc := "(II)I" } : Jvm.MethodName)) ∈ lw_all := lw_g (lw_at lw_m2 167 rfl) rfl
theorem q480 : (Jvm.Cond.code ({ cls := "java/lang/Math", name := "max", desc := "(II)I" } : Jvm.MethodName) prog_44_method_65_code (2 : Nat) (Option.some Jvm.ClassFile.FieldType.int)) ∈ lw_all := lw_g (lw_at lw_m2 168 rfl) rfl
theorem q537 : (Jvm.Cond.static ({ cls := "java/lang/Math", name := "min", desc := "(II)I" } : Jvm.MethodName)) ∈ lw_all := lw_g (lw_at lw_m2 225 rfl) rfl
theorem q538 : (Jvm.Cond.code ({ cls := "java/lang/Math", name := "min", desc := "(II)I" } : Jvm.MethodName) prog_44_method_69_code (2 : Nat) (Option.some Jvm.ClassFile.FieldType.int)) ∈ lw_all := lw_g (lw_at lw_m2 226 rfl) rfl
theorem q1370 : (Jvm.Cond.static ({ cls := "java/lang/Math", name := "addExact", desc := "(II)I" } : Jvm.MethodName)) ∈ lw_all := lw_g (lw_at lw_m6 98 rfl) rfl
theorem q1371 : (Jvm.Cond.code ({ cls := "java/lang/Math", name := "addExact", desc := "(II)I" } : Jvm.MethodName) prog_44_method_24_code (3 : Nat) (Option.some Jvm.ClassFile.FieldType.int)) ∈ lw_all := lw_g (lw_at lw_m6 99 rfl) rfl
theorem q1372 : (Jvm.Cond.classLink "java/lang/Math" (109 : Nat) "java/lang/ArithmeticException") ∈ lw_all := lw_g (lw_at lw_m6 100 rfl) rfl
theorem q1373 : (Jvm.Cond.stringRef "java/lang/Math" (111 : Nat) "integer overflow") ∈ lw_tbl := lw_at lw_m6 101 rfl
theorem q1374 : (Jvm.Cond.methodLink "java/lang/Math" (113 : Nat) ({ cls := "java/lang/ArithmeticException", name := "<init>", desc := "(Ljava/lang/String;)V" } : Jvm.MethodName)) ∈ lw_all := lw_g (lw_at lw_m6 102 rfl) rfl
theorem q2459 : (Jvm.Cond.static ({ cls := "java/lang/Math", name := "multiplyExact", desc := "(II)I" } : Jvm.MethodName)) ∈ lw_all := lw_g (lw_at lw_m10 227 rfl) rfl
theorem q2460 : (Jvm.Cond.code ({ cls := "java/lang/Math", name := "multiplyExact", desc := "(II)I" } : Jvm.MethodName) prog_44_method_28_code (4 : Nat) (Option.some Jvm.ClassFile.FieldType.int)) ∈ lw_all := lw_g (lw_at lw_m10 228 rfl) rfl
/-! java/util/Arrays -/
set_option maxRecDepth 100000
def RJ15 : String := "java/util/Arrays"
abbrev cJ15_copyOf : ByteArray := prog_65_method_119_code
def yJ15_copyOf : MethodName := ⟨RJ15, "copyOf", "([Ljava/lang/Object;I)[Ljava/lang/Object;"⟩
def dkwJ15_copyOf_0 : List UInt8 := [42, 27, 42, 182, 0, 86, 184, 1, 44, 176]
abbrev dktJ15_copyOf_0 : List UInt8 := dkwJ15_copyOf_0 ++ []
theorem dksJ15_copyOf_0 : cJ15_copyOf.data.toList.drop 0 = dktJ15_copyOf_0 := by decide +kernel
theorem dJ15_copyOf_0 : decode cJ15_copyOf 0 = .ok (.aload_n 0, 1) := dk_42 (dk_at dksJ15_copyOf_0 0 rfl rfl)
theorem dJ15_copyOf_1 : decode cJ15_copyOf 1 = .ok (.iload_n 1, 1) := dk_27 (dk_at dksJ15_copyOf_0 1 rfl rfl)
theorem dJ15_copyOf_2 : decode cJ15_copyOf 2 = .ok (.aload_n 0, 1) := dk_42 (dk_at dksJ15_copyOf_0 2 rfl rfl)
theorem dJ15_copyOf_3 : decode cJ15_copyOf 3 = .ok (.invokevirtual 86, 3) := dk_182 0 86 (dk_at dksJ15_copyOf_0 3 rfl rfl)
theorem dJ15_copyOf_6 : decode cJ15_copyOf 6 = .ok (.invokestatic 300, 3) := dk_184 1 44 (dk_at dksJ15_copyOf_0 6 rfl rfl)
theorem dJ15_copyOf_9 : decode cJ15_copyOf 9 = .ok (.areturn, 1) := dk_176 (dk_at dksJ15_copyOf_0 9 rfl rfl)
abbrev cJ15_copyOf_2 : ByteArray := prog_65_method_120_code
def yJ15_copyOf_2 : MethodName := ⟨RJ15, "copyOf", "([Ljava/lang/Object;ILjava/lang/Class;)[Ljava/lang/Object;"⟩
def dkwJ15_copyOf_2_1 : List UInt8 := [78, 42, 3, 45, 3, 42, 190, 27, 184, 1, 48, 184, 0, 150, 45, 176]
abbrev dktJ15_copyOf_2_1 : List UInt8 := dkwJ15_copyOf_2_1 ++ []
def dkwJ15_copyOf_2_0 : List UInt8 := [44, 18, 110, 166, 0, 10, 27, 189, 0, 2, 167, 0, 14, 44, 182, 0, 90, 27, 184, 0, 95, 192, 0, 110]
abbrev dktJ15_copyOf_2_0 : List UInt8 := dkwJ15_copyOf_2_0 ++ dktJ15_copyOf_2_1
theorem dksJ15_copyOf_2_0 : cJ15_copyOf_2.data.toList.drop 0 = dktJ15_copyOf_2_0 := by decide +kernel
theorem dksJ15_copyOf_2_1 : cJ15_copyOf_2.data.toList.drop 24 = dktJ15_copyOf_2_1 := dk_seg dksJ15_copyOf_2_0 24 rfl rfl
theorem dJ15_copyOf_2_0 : decode cJ15_copyOf_2 0 = .ok (.aload_n 2, 1) := dk_44 (dk_at dksJ15_copyOf_2_0 0 rfl rfl)
theorem dJ15_copyOf_2_1 : decode cJ15_copyOf_2 1 = .ok (.ldc 110, 2) := dk_18 110 (dk_at dksJ15_copyOf_2_0 1 rfl rfl)
theorem dJ15_copyOf_2_3 : decode cJ15_copyOf_2 3 = .ok (.if_acmp .ne 10, 3) := dk_166 0 10 (dk_at dksJ15_copyOf_2_0 3 rfl rfl)
theorem dJ15_copyOf_2_6 : decode cJ15_copyOf_2 6 = .ok (.iload_n 1, 1) := dk_27 (dk_at dksJ15_copyOf_2_0 6 rfl rfl)
theorem dJ15_copyOf_2_7 : decode cJ15_copyOf_2 7 = .ok (.anewarray 2, 3) := dk_189 0 2 (dk_at dksJ15_copyOf_2_0 7 rfl rfl)
theorem dJ15_copyOf_2_10 : decode cJ15_copyOf_2 10 = .ok (.goto 14, 3) := dk_167 0 14 (dk_at dksJ15_copyOf_2_0 10 rfl rfl)
theorem dJ15_copyOf_2_13 : decode cJ15_copyOf_2 13 = .ok (.aload_n 2, 1) := dk_44 (dk_at dksJ15_copyOf_2_0 13 rfl rfl)
theorem dJ15_copyOf_2_14 : decode cJ15_copyOf_2 14 = .ok (.invokevirtual 90, 3) := dk_182 0 90 (dk_at dksJ15_copyOf_2_0 14 rfl rfl)
theorem dJ15_copyOf_2_17 : decode cJ15_copyOf_2 17 = .ok (.iload_n 1, 1) := dk_27 (dk_at dksJ15_copyOf_2_0 17 rfl rfl)
theorem dJ15_copyOf_2_18 : decode cJ15_copyOf_2 18 = .ok (.invokestatic 95, 3) := dk_184 0 95 (dk_at dksJ15_copyOf_2_0 18 rfl rfl)
theorem dJ15_copyOf_2_21 : decode cJ15_copyOf_2 21 = .ok (.checkcast 110, 3) := dk_192 0 110 (dk_at dksJ15_copyOf_2_0 21 rfl rfl)
theorem dJ15_copyOf_2_24 : decode cJ15_copyOf_2 24 = .ok (.astore_n 3, 1) := dk_78 (dk_at dksJ15_copyOf_2_1 0 rfl rfl)
theorem dJ15_copyOf_2_25 : decode cJ15_copyOf_2 25 = .ok (.aload_n 0, 1) := dk_42 (dk_at dksJ15_copyOf_2_1 1 rfl rfl)
theorem dJ15_copyOf_2_26 : decode cJ15_copyOf_2 26 = .ok (.iconst 0, 1) := dk_3 (dk_at dksJ15_copyOf_2_1 2 rfl rfl)
theorem dJ15_copyOf_2_27 : decode cJ15_copyOf_2 27 = .ok (.aload_n 3, 1) := dk_45 (dk_at dksJ15_copyOf_2_1 3 rfl rfl)
theorem dJ15_copyOf_2_28 : decode cJ15_copyOf_2 28 = .ok (.iconst 0, 1) := dk_3 (dk_at dksJ15_copyOf_2_1 4 rfl rfl)
theorem dJ15_copyOf_2_29 : decode cJ15_copyOf_2 29 = .ok (.aload_n 0, 1) := dk_42 (dk_at dksJ15_copyOf_2_1 5 rfl rfl)
theorem dJ15_copyOf_2_30 : decode cJ15_copyOf_2 30 = .ok (.arraylength, 1) := dk_190 (dk_at dksJ15_copyOf_2_1 6 rfl rfl)
theorem dJ15_copyOf_2_31 : decode cJ15_copyOf_2 31 = .ok (.iload_n 1, 1) := dk_27 (dk_at dksJ15_copyOf_2_1 7 rfl rfl)
theorem dJ15_copyOf_2_32 : decode cJ15_copyOf_2 32 = .ok (.invokestatic 304, 3) := dk_184 1 48 (dk_at dksJ15_copyOf_2_1 8 rfl rfl)
theorem dJ15_copyOf_2_35 : decode cJ15_copyOf_2 35 = .ok (.invokestatic 150, 3) := dk_184 0 150 (dk_at dksJ15_copyOf_2_1 11 rfl rfl)
theorem dJ15_copyOf_2_38 : decode cJ15_copyOf_2 38 = .ok (.aload_n 3, 1) := dk_45 (dk_at dksJ15_copyOf_2_1 14 rfl rfl)
theorem dJ15_copyOf_2_39 : decode cJ15_copyOf_2 39 = .ok (.areturn, 1) := dk_176 (dk_at dksJ15_copyOf_2_1 15 rfl rfl)
abbrev cJ15_copyOf_3 : ByteArray := prog_65_method_121_code
def yJ15_copyOf_3 : MethodName := ⟨RJ15, "copyOf", "([BI)[B"⟩
def dkwJ15_copyOf_3_1 : List UInt8 := [27, 184, 1, 48, 184, 0, 150, 44, 176]
abbrev dktJ15_copyOf_3_1 : List UInt8 := dkwJ15_copyOf_3_1 ++ []
def dkwJ15_copyOf_3_0 : List UInt8 := [27, 42, 190, 160, 0, 11, 42, 182, 1, 54, 192, 1, 55, 176, 27, 188, 8, 77, 42, 3, 44, 3, 42, 190]
abbrev dktJ15_copyOf_3_0 : List UInt8 := dkwJ15_copyOf_3_0 ++ dktJ15_copyOf_3_1
theorem dksJ15_copyOf_3_0 : cJ15_copyOf_3.data.toList.drop 0 = dktJ15_copyOf_3_0 := by decide +kernel
theorem dksJ15_copyOf_3_1 : cJ15_copyOf_3.data.toList.drop 24 = dktJ15_copyOf_3_1 := dk_seg dksJ15_copyOf_3_0 24 rfl rfl
theorem dJ15_copyOf_3_0 : decode cJ15_copyOf_3 0 = .ok (.iload_n 1, 1) := dk_27 (dk_at dksJ15_copyOf_3_0 0 rfl rfl)
theorem dJ15_copyOf_3_1 : decode cJ15_copyOf_3 1 = .ok (.aload_n 0, 1) := dk_42 (dk_at dksJ15_copyOf_3_0 1 rfl rfl)
theorem dJ15_copyOf_3_2 : decode cJ15_copyOf_3 2 = .ok (.arraylength, 1) := dk_190 (dk_at dksJ15_copyOf_3_0 2 rfl rfl)
theorem dJ15_copyOf_3_3 : decode cJ15_copyOf_3 3 = .ok (.if_icmp .ne 11, 3) := dk_160 0 11 (dk_at dksJ15_copyOf_3_0 3 rfl rfl)
theorem dJ15_copyOf_3_6 : decode cJ15_copyOf_3 6 = .ok (.aload_n 0, 1) := dk_42 (dk_at dksJ15_copyOf_3_0 6 rfl rfl)
theorem dJ15_copyOf_3_7 : decode cJ15_copyOf_3 7 = .ok (.invokevirtual 310, 3) := dk_182 1 54 (dk_at dksJ15_copyOf_3_0 7 rfl rfl)
theorem dJ15_copyOf_3_10 : decode cJ15_copyOf_3 10 = .ok (.checkcast 311, 3) := dk_192 1 55 (dk_at dksJ15_copyOf_3_0 10 rfl rfl)
theorem dJ15_copyOf_3_13 : decode cJ15_copyOf_3 13 = .ok (.areturn, 1) := dk_176 (dk_at dksJ15_copyOf_3_0 13 rfl rfl)
theorem dJ15_copyOf_3_14 : decode cJ15_copyOf_3 14 = .ok (.iload_n 1, 1) := dk_27 (dk_at dksJ15_copyOf_3_0 14 rfl rfl)
theorem dJ15_copyOf_3_15 : decode cJ15_copyOf_3 15 = .ok (.newarray .byte, 2) := dk_188_8 (dk_at dksJ15_copyOf_3_0 15 rfl rfl)
theorem dJ15_copyOf_3_17 : decode cJ15_copyOf_3 17 = .ok (.astore_n 2, 1) := dk_77 (dk_at dksJ15_copyOf_3_0 17 rfl rfl)
theorem dJ15_copyOf_3_18 : decode cJ15_copyOf_3 18 = .ok (.aload_n 0, 1) := dk_42 (dk_at dksJ15_copyOf_3_0 18 rfl rfl)
theorem dJ15_copyOf_3_19 : decode cJ15_copyOf_3 19 = .ok (.iconst 0, 1) := dk_3 (dk_at dksJ15_copyOf_3_0 19 rfl rfl)
theorem dJ15_copyOf_3_20 : decode cJ15_copyOf_3 20 = .ok (.aload_n 2, 1) := dk_44 (dk_at dksJ15_copyOf_3_0 20 rfl rfl)
theorem dJ15_copyOf_3_21 : decode cJ15_copyOf_3 21 = .ok (.iconst 0, 1) := dk_3 (dk_at dksJ15_copyOf_3_0 21 rfl rfl)
theorem dJ15_copyOf_3_22 : decode cJ15_copyOf_3 22 = .ok (.aload_n 0, 1) := dk_42 (dk_at dksJ15_copyOf_3_0 22 rfl rfl)
theorem dJ15_copyOf_3_23 : decode cJ15_copyOf_3 23 = .ok (.arraylength, 1) := dk_190 (dk_at dksJ15_copyOf_3_0 23 rfl rfl)
theorem dJ15_copyOf_3_24 : decode cJ15_copyOf_3 24 = .ok (.iload_n 1, 1) := dk_27 (dk_at dksJ15_copyOf_3_1 0 rfl rfl)
theorem dJ15_copyOf_3_25 : decode cJ15_copyOf_3 25 = .ok (.invokestatic 304, 3) := dk_184 1 48 (dk_at dksJ15_copyOf_3_1 1 rfl rfl)
theorem dJ15_copyOf_3_28 : decode cJ15_copyOf_3 28 = .ok (.invokestatic 150, 3) := dk_184 0 150 (dk_at dksJ15_copyOf_3_1 4 rfl rfl)
theorem dJ15_copyOf_3_31 : decode cJ15_copyOf_3 31 = .ok (.aload_n 2, 1) := dk_44 (dk_at dksJ15_copyOf_3_1 7 rfl rfl)
theorem dJ15_copyOf_3_32 : decode cJ15_copyOf_3 32 = .ok (.areturn, 1) := dk_176 (dk_at dksJ15_copyOf_3_1 8 rfl rfl)
abbrev cJ15_copyOfRange : ByteArray := prog_65_method_132_code
def yJ15_copyOfRange : MethodName := ⟨RJ15, "copyOfRange", "([BII)[B"⟩
def dkwJ15_copyOfRange_1 : List UInt8 := [176]
abbrev dktJ15_copyOfRange_1 : List UInt8 := dkwJ15_copyOfRange_1 ++ []
def dkwJ15_copyOfRange_0 : List UInt8 := [27, 154, 0, 9, 28, 42, 190, 159, 0, 10, 42, 27, 28, 184, 1, 83, 176, 42, 182, 1, 54, 192, 1, 55]
abbrev dktJ15_copyOfRange_0 : List UInt8 := dkwJ15_copyOfRange_0 ++ dktJ15_copyOfRange_1
theorem dksJ15_copyOfRange_0 : cJ15_copyOfRange.data.toList.drop 0 = dktJ15_copyOfRange_0 := by decide +kernel
theorem dksJ15_copyOfRange_1 : cJ15_copyOfRange.data.toList.drop 24 = dktJ15_copyOfRange_1 := dk_seg dksJ15_copyOfRange_0 24 rfl rfl
theorem dJ15_copyOfRange_0 : decode cJ15_copyOfRange 0 = .ok (.iload_n 1, 1) := dk_27 (dk_at dksJ15_copyOfRange_0 0 rfl rfl)
theorem dJ15_copyOfRange_1 : decode cJ15_copyOfRange 1 = .ok (.ifCond .ne 9, 3) := dk_154 0 9 (dk_at dksJ15_copyOfRange_0 1 rfl rfl)
theorem dJ15_copyOfRange_4 : decode cJ15_copyOfRange 4 = .ok (.iload_n 2, 1) := dk_28 (dk_at dksJ15_copyOfRange_0 4 rfl rfl)
theorem dJ15_copyOfRange_5 : decode cJ15_copyOfRange 5 = .ok (.aload_n 0, 1) := dk_42 (dk_at dksJ15_copyOfRange_0 5 rfl rfl)
theorem dJ15_copyOfRange_6 : decode cJ15_copyOfRange 6 = .ok (.arraylength, 1) := dk_190 (dk_at dksJ15_copyOfRange_0 6 rfl rfl)
theorem dJ15_copyOfRange_7 : decode cJ15_copyOfRange 7 = .ok (.if_icmp .eq 10, 3) := dk_159 0 10 (dk_at dksJ15_copyOfRange_0 7 rfl rfl)
theorem dJ15_copyOfRange_10 : decode cJ15_copyOfRange 10 = .ok (.aload_n 0, 1) := dk_42 (dk_at dksJ15_copyOfRange_0 10 rfl rfl)
theorem dJ15_copyOfRange_11 : decode cJ15_copyOfRange 11 = .ok (.iload_n 1, 1) := dk_27 (dk_at dksJ15_copyOfRange_0 11 rfl rfl)
theorem dJ15_copyOfRange_12 : decode cJ15_copyOfRange 12 = .ok (.iload_n 2, 1) := dk_28 (dk_at dksJ15_copyOfRange_0 12 rfl rfl)
theorem dJ15_copyOfRange_13 : decode cJ15_copyOfRange 13 = .ok (.invokestatic 339, 3) := dk_184 1 83 (dk_at dksJ15_copyOfRange_0 13 rfl rfl)
theorem dJ15_copyOfRange_16 : decode cJ15_copyOfRange 16 = .ok (.areturn, 1) := dk_176 (dk_at dksJ15_copyOfRange_0 16 rfl rfl)
theorem dJ15_copyOfRange_17 : decode cJ15_copyOfRange 17 = .ok (.aload_n 0, 1) := dk_42 (dk_at dksJ15_copyOfRange_0 17 rfl rfl)
theorem dJ15_copyOfRange_18 : decode cJ15_copyOfRange 18 = .ok (.invokevirtual 310, 3) := dk_182 1 54 (dk_at dksJ15_copyOfRange_0 18 rfl rfl)
theorem dJ15_copyOfRange_21 : decode cJ15_copyOfRange 21 = .ok (.checkcast 311, 3) := dk_192 1 55 (dk_at dksJ15_copyOfRange_0 21 rfl rfl)
theorem dJ15_copyOfRange_24 : decode cJ15_copyOfRange 24 = .ok (.areturn, 1) := dk_176 (dk_at dksJ15_copyOfRange_1 0 rfl rfl)
abbrev cJ15_copyOfRangeByte : ByteArray := prog_65_method_133_code
def yJ15_copyOfRangeByte : MethodName := ⟨RJ15, "copyOfRangeByte", "([BII)[B"⟩
def dkwJ15_copyOfRangeByte_1 : List UInt8 := [184, 1, 48, 184, 0, 150, 25, 4, 176]
abbrev dktJ15_copyOfRangeByte_1 : List UInt8 := dkwJ15_copyOfRangeByte_1 ++ []
def dkwJ15_copyOfRangeByte_0 : List UInt8 := [27, 28, 184, 1, 87, 28, 27, 100, 62, 29, 188, 8, 58, 4, 42, 27, 25, 4, 3, 42, 190, 27, 100, 29]
abbrev dktJ15_copyOfRangeByte_0 : List UInt8 := dkwJ15_copyOfRangeByte_0 ++ dktJ15_copyOfRangeByte_1
theorem dksJ15_copyOfRangeByte_0 : cJ15_copyOfRangeByte.data.toList.drop 0 = dktJ15_copyOfRangeByte_0 := by decide +kernel
theorem dksJ15_copyOfRangeByte_1 : cJ15_copyOfRangeByte.data.toList.drop 24 = dktJ15_copyOfRangeByte_1 := dk_seg dksJ15_copyOfRangeByte_0 24 rfl rfl
theorem dJ15_copyOfRangeByte_0 : decode cJ15_copyOfRangeByte 0 = .ok (.iload_n 1, 1) := dk_27 (dk_at dksJ15_copyOfRangeByte_0 0 rfl rfl)
theorem dJ15_copyOfRangeByte_1 : decode cJ15_copyOfRangeByte 1 = .ok (.iload_n 2, 1) := dk_28 (dk_at dksJ15_copyOfRangeByte_0 1 rfl rfl)
theorem dJ15_copyOfRangeByte_2 : decode cJ15_copyOfRangeByte 2 = .ok (.invokestatic 343, 3) := dk_184 1 87 (dk_at dksJ15_copyOfRangeByte_0 2 rfl rfl)
theorem dJ15_copyOfRangeByte_5 : decode cJ15_copyOfRangeByte 5 = .ok (.iload_n 2, 1) := dk_28 (dk_at dksJ15_copyOfRangeByte_0 5 rfl rfl)
theorem dJ15_copyOfRangeByte_6 : decode cJ15_copyOfRangeByte 6 = .ok (.iload_n 1, 1) := dk_27 (dk_at dksJ15_copyOfRangeByte_0 6 rfl rfl)
theorem dJ15_copyOfRangeByte_7 : decode cJ15_copyOfRangeByte 7 = .ok (.isub, 1) := dk_100 (dk_at dksJ15_copyOfRangeByte_0 7 rfl rfl)
theorem dJ15_copyOfRangeByte_8 : decode cJ15_copyOfRangeByte 8 = .ok (.istore_n 3, 1) := dk_62 (dk_at dksJ15_copyOfRangeByte_0 8 rfl rfl)
theorem dJ15_copyOfRangeByte_9 : decode cJ15_copyOfRangeByte 9 = .ok (.iload_n 3, 1) := dk_29 (dk_at dksJ15_copyOfRangeByte_0 9 rfl rfl)
theorem dJ15_copyOfRangeByte_10 : decode cJ15_copyOfRangeByte 10 = .ok (.newarray .byte, 2) := dk_188_8 (dk_at dksJ15_copyOfRangeByte_0 10 rfl rfl)
theorem dJ15_copyOfRangeByte_12 : decode cJ15_copyOfRangeByte 12 = .ok (.astore 4, 2) := dk_58 4 (dk_at dksJ15_copyOfRangeByte_0 12 rfl rfl)
theorem dJ15_copyOfRangeByte_14 : decode cJ15_copyOfRangeByte 14 = .ok (.aload_n 0, 1) := dk_42 (dk_at dksJ15_copyOfRangeByte_0 14 rfl rfl)
theorem dJ15_copyOfRangeByte_15 : decode cJ15_copyOfRangeByte 15 = .ok (.iload_n 1, 1) := dk_27 (dk_at dksJ15_copyOfRangeByte_0 15 rfl rfl)
theorem dJ15_copyOfRangeByte_16 : decode cJ15_copyOfRangeByte 16 = .ok (.aload 4, 2) := dk_25 4 (dk_at dksJ15_copyOfRangeByte_0 16 rfl rfl)
theorem dJ15_copyOfRangeByte_18 : decode cJ15_copyOfRangeByte 18 = .ok (.iconst 0, 1) := dk_3 (dk_at dksJ15_copyOfRangeByte_0 18 rfl rfl)
theorem dJ15_copyOfRangeByte_19 : decode cJ15_copyOfRangeByte 19 = .ok (.aload_n 0, 1) := dk_42 (dk_at dksJ15_copyOfRangeByte_0 19 rfl rfl)
theorem dJ15_copyOfRangeByte_20 : decode cJ15_copyOfRangeByte 20 = .ok (.arraylength, 1) := dk_190 (dk_at dksJ15_copyOfRangeByte_0 20 rfl rfl)
theorem dJ15_copyOfRangeByte_21 : decode cJ15_copyOfRangeByte 21 = .ok (.iload_n 1, 1) := dk_27 (dk_at dksJ15_copyOfRangeByte_0 21 rfl rfl)
theorem dJ15_copyOfRangeByte_22 : decode cJ15_copyOfRangeByte 22 = .ok (.isub, 1) := dk_100 (dk_at dksJ15_copyOfRangeByte_0 22 rfl rfl)
theorem dJ15_copyOfRangeByte_23 : decode cJ15_copyOfRangeByte 23 = .ok (.iload_n 3, 1) := dk_29 (dk_at dksJ15_copyOfRangeByte_0 23 rfl rfl)
theorem dJ15_copyOfRangeByte_24 : decode cJ15_copyOfRangeByte 24 = .ok (.invokestatic 304, 3) := dk_184 1 48 (dk_at dksJ15_copyOfRangeByte_1 0 rfl rfl)
theorem dJ15_copyOfRangeByte_27 : decode cJ15_copyOfRangeByte 27 = .ok (.invokestatic 150, 3) := dk_184 0 150 (dk_at dksJ15_copyOfRangeByte_1 3 rfl rfl)
theorem dJ15_copyOfRangeByte_30 : decode cJ15_copyOfRangeByte 30 = .ok (.aload 4, 2) := dk_25 4 (dk_at dksJ15_copyOfRangeByte_1 6 rfl rfl)
theorem dJ15_copyOfRangeByte_32 : decode cJ15_copyOfRangeByte 32 = .ok (.areturn, 1) := dk_176 (dk_at dksJ15_copyOfRangeByte_1 8 rfl rfl)
abbrev cJ15_checkLength : ByteArray := prog_65_method_131_code
def yJ15_checkLength : MethodName := ⟨RJ15, "checkLength", "(II)V"⟩
def dkwJ15_checkLength_1 : List UInt8 := [182, 0, 50, 27, 182, 0, 54, 182, 0, 61, 183, 0, 65, 191, 177]
abbrev dktJ15_checkLength_1 : List UInt8 := dkwJ15_checkLength_1 ++ []
def dkwJ15_checkLength_0 : List UInt8 := [27, 26, 162, 0, 35, 187, 0, 43, 89, 187, 0, 45, 89, 183, 0, 47, 26, 182, 0, 54, 19, 1, 81]
abbrev dktJ15_checkLength_0 : List UInt8 := dkwJ15_checkLength_0 ++ dktJ15_checkLength_1
theorem dksJ15_checkLength_0 : cJ15_checkLength.data.toList.drop 0 = dktJ15_checkLength_0 := by decide +kernel
theorem dksJ15_checkLength_1 : cJ15_checkLength.data.toList.drop 23 = dktJ15_checkLength_1 := dk_seg dksJ15_checkLength_0 23 rfl rfl
theorem dJ15_checkLength_0 : decode cJ15_checkLength 0 = .ok (.iload_n 1, 1) := dk_27 (dk_at dksJ15_checkLength_0 0 rfl rfl)
theorem dJ15_checkLength_1 : decode cJ15_checkLength 1 = .ok (.iload_n 0, 1) := dk_26 (dk_at dksJ15_checkLength_0 1 rfl rfl)
theorem dJ15_checkLength_2 : decode cJ15_checkLength 2 = .ok (.if_icmp .ge 35, 3) := dk_162 0 35 (dk_at dksJ15_checkLength_0 2 rfl rfl)
theorem dJ15_checkLength_5 : decode cJ15_checkLength 5 = .ok (.new 43, 3) := dk_187 0 43 (dk_at dksJ15_checkLength_0 5 rfl rfl)
theorem dJ15_checkLength_8 : decode cJ15_checkLength 8 = .ok (.dup, 1) := dk_89 (dk_at dksJ15_checkLength_0 8 rfl rfl)
theorem dJ15_checkLength_9 : decode cJ15_checkLength 9 = .ok (.new 45, 3) := dk_187 0 45 (dk_at dksJ15_checkLength_0 9 rfl rfl)
theorem dJ15_checkLength_12 : decode cJ15_checkLength 12 = .ok (.dup, 1) := dk_89 (dk_at dksJ15_checkLength_0 12 rfl rfl)
theorem dJ15_checkLength_13 : decode cJ15_checkLength 13 = .ok (.invokespecial 47, 3) := dk_183 0 47 (dk_at dksJ15_checkLength_0 13 rfl rfl)
theorem dJ15_checkLength_16 : decode cJ15_checkLength 16 = .ok (.iload_n 0, 1) := dk_26 (dk_at dksJ15_checkLength_0 16 rfl rfl)
theorem dJ15_checkLength_17 : decode cJ15_checkLength 17 = .ok (.invokevirtual 54, 3) := dk_182 0 54 (dk_at dksJ15_checkLength_0 17 rfl rfl)
theorem dJ15_checkLength_20 : decode cJ15_checkLength 20 = .ok (.ldc_w 337, 3) := dk_19 1 81 (dk_at dksJ15_checkLength_0 20 rfl rfl)
theorem dJ15_checkLength_23 : decode cJ15_checkLength 23 = .ok (.invokevirtual 50, 3) := dk_182 0 50 (dk_at dksJ15_checkLength_1 0 rfl rfl)
theorem dJ15_checkLength_26 : decode cJ15_checkLength 26 = .ok (.iload_n 1, 1) := dk_27 (dk_at dksJ15_checkLength_1 3 rfl rfl)
theorem dJ15_checkLength_27 : decode cJ15_checkLength 27 = .ok (.invokevirtual 54, 3) := dk_182 0 54 (dk_at dksJ15_checkLength_1 4 rfl rfl)
theorem dJ15_checkLength_30 : decode cJ15_checkLength 30 = .ok (.invokevirtual 61, 3) := dk_182 0 61 (dk_at dksJ15_checkLength_1 7 rfl rfl)
theorem dJ15_checkLength_33 : decode cJ15_checkLength 33 = .ok (.invokespecial 65, 3) := dk_183 0 65 (dk_at dksJ15_checkLength_1 10 rfl rfl)
theorem dJ15_checkLength_36 : decode cJ15_checkLength 36 = .ok (.athrow, 1) := dk_191 (dk_at dksJ15_checkLength_1 13 rfl rfl)
theorem dJ15_checkLength_37 : decode cJ15_checkLength 37 = .ok (.return_, 1) := dk_177 (dk_at dksJ15_checkLength_1 14 rfl rfl)
abbrev cJ15_fill : ByteArray := prog_65_method_110_code
def yJ15_fill : MethodName := ⟨RJ15, "fill", "([BIIB)V"⟩
def dkwJ15_fill_1 : List UInt8 := [167, 255, 242, 177]
abbrev dktJ15_fill_1 : List UInt8 := dkwJ15_fill_1 ++ []
def dkwJ15_fill_0 : List UInt8 := [42, 190, 27, 28, 184, 0, 13, 27, 54, 4, 21, 4, 28, 162, 0, 14, 42, 21, 4, 29, 84, 132, 4, 1]
abbrev dktJ15_fill_0 : List UInt8 := dkwJ15_fill_0 ++ dktJ15_fill_1
theorem dksJ15_fill_0 : cJ15_fill.data.toList.drop 0 = dktJ15_fill_0 := by decide +kernel
theorem dksJ15_fill_1 : cJ15_fill.data.toList.drop 24 = dktJ15_fill_1 := dk_seg dksJ15_fill_0 24 rfl rfl
theorem dJ15_fill_0 : decode cJ15_fill 0 = .ok (.aload_n 0, 1) := dk_42 (dk_at dksJ15_fill_0 0 rfl rfl)
theorem dJ15_fill_1 : decode cJ15_fill 1 = .ok (.arraylength, 1) := dk_190 (dk_at dksJ15_fill_0 1 rfl rfl)
theorem dJ15_fill_2 : decode cJ15_fill 2 = .ok (.iload_n 1, 1) := dk_27 (dk_at dksJ15_fill_0 2 rfl rfl)
theorem dJ15_fill_3 : decode cJ15_fill 3 = .ok (.iload_n 2, 1) := dk_28 (dk_at dksJ15_fill_0 3 rfl rfl)
theorem dJ15_fill_4 : decode cJ15_fill 4 = .ok (.invokestatic 13, 3) := dk_184 0 13 (dk_at dksJ15_fill_0 4 rfl rfl)
theorem dJ15_fill_7 : decode cJ15_fill 7 = .ok (.iload_n 1, 1) := dk_27 (dk_at dksJ15_fill_0 7 rfl rfl)
theorem dJ15_fill_8 : decode cJ15_fill 8 = .ok (.istore 4, 2) := dk_54 4 (dk_at dksJ15_fill_0 8 rfl rfl)
theorem dJ15_fill_10 : decode cJ15_fill 10 = .ok (.iload 4, 2) := dk_21 4 (dk_at dksJ15_fill_0 10 rfl rfl)
theorem dJ15_fill_12 : decode cJ15_fill 12 = .ok (.iload_n 2, 1) := dk_28 (dk_at dksJ15_fill_0 12 rfl rfl)
theorem dJ15_fill_13 : decode cJ15_fill 13 = .ok (.if_icmp .ge 14, 3) := dk_162 0 14 (dk_at dksJ15_fill_0 13 rfl rfl)
theorem dJ15_fill_16 : decode cJ15_fill 16 = .ok (.aload_n 0, 1) := dk_42 (dk_at dksJ15_fill_0 16 rfl rfl)
theorem dJ15_fill_17 : decode cJ15_fill 17 = .ok (.iload 4, 2) := dk_21 4 (dk_at dksJ15_fill_0 17 rfl rfl)
theorem dJ15_fill_19 : decode cJ15_fill 19 = .ok (.iload_n 3, 1) := dk_29 (dk_at dksJ15_fill_0 19 rfl rfl)
theorem dJ15_fill_20 : decode cJ15_fill 20 = .ok (.bastore, 1) := dk_84 (dk_at dksJ15_fill_0 20 rfl rfl)
theorem dJ15_fill_21 : decode cJ15_fill 21 = .ok (.iinc 4 1, 3) := dk_132 4 1 (dk_at dksJ15_fill_0 21 rfl rfl)
theorem dJ15_fill_24 : decode cJ15_fill 24 = .ok (.goto (-14), 3) := dk_167 255 242 (dk_at dksJ15_fill_1 0 rfl rfl)
theorem dJ15_fill_27 : decode cJ15_fill 27 = .ok (.return_, 1) := dk_177 (dk_at dksJ15_fill_1 3 rfl rfl)
abbrev cJ15_rangeCheck : ByteArray := prog_65_method_30_code
def yJ15_rangeCheck : MethodName := ⟨RJ15, "rangeCheck", "(III)V"⟩
def dkwJ15_rangeCheck_3 : List UInt8 := [183, 0, 70, 191, 177]
abbrev dktJ15_rangeCheck_3 : List UInt8 := dkwJ15_rangeCheck_3 ++ []
def dkwJ15_rangeCheck_2 : List UInt8 := [27, 156, 0, 12, 187, 0, 68, 89, 27, 183, 0, 70, 191, 28, 26, 164, 0, 12, 187, 0, 68, 89, 28]
abbrev dktJ15_rangeCheck_2 : List UInt8 := dkwJ15_rangeCheck_2 ++ dktJ15_rangeCheck_3
def dkwJ15_rangeCheck_1 : List UInt8 := [182, 0, 54, 18, 57, 182, 0, 50, 28, 182, 0, 54, 18, 59, 182, 0, 50, 182, 0, 61, 183, 0, 65, 191]
abbrev dktJ15_rangeCheck_1 : List UInt8 := dkwJ15_rangeCheck_1 ++ dktJ15_rangeCheck_2
def dkwJ15_rangeCheck_0 : List UInt8 := [27, 28, 164, 0, 44, 187, 0, 43, 89, 187, 0, 45, 89, 183, 0, 47, 18, 48, 182, 0, 50, 27]
abbrev dktJ15_rangeCheck_0 : List UInt8 := dkwJ15_rangeCheck_0 ++ dktJ15_rangeCheck_1
theorem dksJ15_rangeCheck_0 : cJ15_rangeCheck.data.toList.drop 0 = dktJ15_rangeCheck_0 := by decide +kernel
theorem dksJ15_rangeCheck_1 : cJ15_rangeCheck.data.toList.drop 22 = dktJ15_rangeCheck_1 := dk_seg dksJ15_rangeCheck_0 22 rfl rfl
theorem dksJ15_rangeCheck_2 : cJ15_rangeCheck.data.toList.drop 46 = dktJ15_rangeCheck_2 := dk_seg dksJ15_rangeCheck_1 24 rfl rfl
theorem dksJ15_rangeCheck_3 : cJ15_rangeCheck.data.toList.drop 69 = dktJ15_rangeCheck_3 := dk_seg dksJ15_rangeCheck_2 23 rfl rfl
theorem dJ15_rangeCheck_0 : decode cJ15_rangeCheck 0 = .ok (.iload_n 1, 1) := dk_27 (dk_at dksJ15_rangeCheck_0 0 rfl rfl)
theorem dJ15_rangeCheck_1 : decode cJ15_rangeCheck 1 = .ok (.iload_n 2, 1) := dk_28 (dk_at dksJ15_rangeCheck_0 1 rfl rfl)
theorem dJ15_rangeCheck_2 : decode cJ15_rangeCheck 2 = .ok (.if_icmp .le 44, 3) := dk_164 0 44 (dk_at dksJ15_rangeCheck_0 2 rfl rfl)
theorem dJ15_rangeCheck_5 : decode cJ15_rangeCheck 5 = .ok (.new 43, 3) := dk_187 0 43 (dk_at dksJ15_rangeCheck_0 5 rfl rfl)
theorem dJ15_rangeCheck_8 : decode cJ15_rangeCheck 8 = .ok (.dup, 1) := dk_89 (dk_at dksJ15_rangeCheck_0 8 rfl rfl)
theorem dJ15_rangeCheck_9 : decode cJ15_rangeCheck 9 = .ok (.new 45, 3) := dk_187 0 45 (dk_at dksJ15_rangeCheck_0 9 rfl rfl)
theorem dJ15_rangeCheck_12 : decode cJ15_rangeCheck 12 = .ok (.dup, 1) := dk_89 (dk_at dksJ15_rangeCheck_0 12 rfl rfl)
theorem dJ15_rangeCheck_13 : decode cJ15_rangeCheck 13 = .ok (.invokespecial 47, 3) := dk_183 0 47 (dk_at dksJ15_rangeCheck_0 13 rfl rfl)
theorem dJ15_rangeCheck_16 : decode cJ15_rangeCheck 16 = .ok (.ldc 48, 2) := dk_18 48 (dk_at dksJ15_rangeCheck_0 16 rfl rfl)
theorem dJ15_rangeCheck_18 : decode cJ15_rangeCheck 18 = .ok (.invokevirtual 50, 3) := dk_182 0 50 (dk_at dksJ15_rangeCheck_0 18 rfl rfl)
theorem dJ15_rangeCheck_21 : decode cJ15_rangeCheck 21 = .ok (.iload_n 1, 1) := dk_27 (dk_at dksJ15_rangeCheck_0 21 rfl rfl)
theorem dJ15_rangeCheck_22 : decode cJ15_rangeCheck 22 = .ok (.invokevirtual 54, 3) := dk_182 0 54 (dk_at dksJ15_rangeCheck_1 0 rfl rfl)
theorem dJ15_rangeCheck_25 : decode cJ15_rangeCheck 25 = .ok (.ldc 57, 2) := dk_18 57 (dk_at dksJ15_rangeCheck_1 3 rfl rfl)
theorem dJ15_rangeCheck_27 : decode cJ15_rangeCheck 27 = .ok (.invokevirtual 50, 3) := dk_182 0 50 (dk_at dksJ15_rangeCheck_1 5 rfl rfl)
theorem dJ15_rangeCheck_30 : decode cJ15_rangeCheck 30 = .ok (.iload_n 2, 1) := dk_28 (dk_at dksJ15_rangeCheck_1 8 rfl rfl)
theorem dJ15_rangeCheck_31 : decode cJ15_rangeCheck 31 = .ok (.invokevirtual 54, 3) := dk_182 0 54 (dk_at dksJ15_rangeCheck_1 9 rfl rfl)
theorem dJ15_rangeCheck_34 : decode cJ15_rangeCheck 34 = .ok (.ldc 59, 2) := dk_18 59 (dk_at dksJ15_rangeCheck_1 12 rfl rfl)
theorem dJ15_rangeCheck_36 : decode cJ15_rangeCheck 36 = .ok (.invokevirtual 50, 3) := dk_182 0 50 (dk_at dksJ15_rangeCheck_1 14 rfl rfl)
theorem dJ15_rangeCheck_39 : decode cJ15_rangeCheck 39 = .ok (.invokevirtual 61, 3) := dk_182 0 61 (dk_at dksJ15_rangeCheck_1 17 rfl rfl)
theorem dJ15_rangeCheck_42 : decode cJ15_rangeCheck 42 = .ok (.invokespecial 65, 3) := dk_183 0 65 (dk_at dksJ15_rangeCheck_1 20 rfl rfl)
theorem dJ15_rangeCheck_45 : decode cJ15_rangeCheck 45 = .ok (.athrow, 1) := dk_191 (dk_at dksJ15_rangeCheck_1 23 rfl rfl)
theorem dJ15_rangeCheck_46 : decode cJ15_rangeCheck 46 = .ok (.iload_n 1, 1) := dk_27 (dk_at dksJ15_rangeCheck_2 0 rfl rfl)
theorem dJ15_rangeCheck_47 : decode cJ15_rangeCheck 47 = .ok (.ifCond .ge 12, 3) := dk_156 0 12 (dk_at dksJ15_rangeCheck_2 1 rfl rfl)
theorem dJ15_rangeCheck_50 : decode cJ15_rangeCheck 50 = .ok (.new 68, 3) := dk_187 0 68 (dk_at dksJ15_rangeCheck_2 4 rfl rfl)
theorem dJ15_rangeCheck_53 : decode cJ15_rangeCheck 53 = .ok (.dup, 1) := dk_89 (dk_at dksJ15_rangeCheck_2 7 rfl rfl)
theorem dJ15_rangeCheck_54 : decode cJ15_rangeCheck 54 = .ok (.iload_n 1, 1) := dk_27 (dk_at dksJ15_rangeCheck_2 8 rfl rfl)
theorem dJ15_rangeCheck_55 : decode cJ15_rangeCheck 55 = .ok (.invokespecial 70, 3) := dk_183 0 70 (dk_at dksJ15_rangeCheck_2 9 rfl rfl)
theorem dJ15_rangeCheck_58 : decode cJ15_rangeCheck 58 = .ok (.athrow, 1) := dk_191 (dk_at dksJ15_rangeCheck_2 12 rfl rfl)
theorem dJ15_rangeCheck_59 : decode cJ15_rangeCheck 59 = .ok (.iload_n 2, 1) := dk_28 (dk_at dksJ15_rangeCheck_2 13 rfl rfl)
theorem dJ15_rangeCheck_60 : decode cJ15_rangeCheck 60 = .ok (.iload_n 0, 1) := dk_26 (dk_at dksJ15_rangeCheck_2 14 rfl rfl)
theorem dJ15_rangeCheck_61 : decode cJ15_rangeCheck 61 = .ok (.if_icmp .le 12, 3) := dk_164 0 12 (dk_at dksJ15_rangeCheck_2 15 rfl rfl)
theorem dJ15_rangeCheck_64 : decode cJ15_rangeCheck 64 = .ok (.new 68, 3) := dk_187 0 68 (dk_at dksJ15_rangeCheck_2 18 rfl rfl)
theorem dJ15_rangeCheck_67 : decode cJ15_rangeCheck 67 = .ok (.dup, 1) := dk_89 (dk_at dksJ15_rangeCheck_2 21 rfl rfl)
theorem dJ15_rangeCheck_68 : decode cJ15_rangeCheck 68 = .ok (.iload_n 2, 1) := dk_28 (dk_at dksJ15_rangeCheck_2 22 rfl rfl)
theorem dJ15_rangeCheck_69 : decode cJ15_rangeCheck 69 = .ok (.invokespecial 70, 3) := dk_183 0 70 (dk_at dksJ15_rangeCheck_3 0 rfl rfl)
theorem dJ15_rangeCheck_72 : decode cJ15_rangeCheck 72 = .ok (.athrow, 1) := dk_191 (dk_at dksJ15_rangeCheck_3 3 rfl rfl)
theorem dJ15_rangeCheck_73 : decode cJ15_rangeCheck 73 = .ok (.return_, 1) := dk_177 (dk_at dksJ15_rangeCheck_3 4 rfl rfl)
theorem q91 : (Jvm.Cond.initialized "java/util/Arrays") ∈ lw_all := lw_g (lw_at lw_m1 19 rfl) rfl
theorem q486 : (Jvm.Cond.static ({ cls := "java/util/Arrays", name := "copyOf", desc := "([Ljava/lang/Object;I)[Ljava/lang/Object;" } : Jvm.MethodName)) ∈ lw_all := lw_g (lw_at lw_m2 174 rfl) rfl
theorem q487 : (Jvm.Cond.code ({ cls := "java/util/Arrays", name := "copyOf", desc := "([Ljava/lang/Object;I)[Ljava/lang/Object;" } : Jvm.MethodName) prog_65_method_119_code (2 : Nat) (Option.some (Jvm.ClassFile.FieldType.array (Jvm.ClassFile.FieldType.object "java/lang/Object")))) ∈ lw_all := lw_g (lw_at lw_m2 175 rfl) rfl
theorem q488 : (Jvm.Cond.methodLink "java/util/Arrays" (86 : Nat) ({ cls := "java/lang/Object", name := "getClass", desc := "()Ljava/lang/Class;" } : Jvm.MethodName)) ∈ lw_all := lw_g (lw_at lw_m2 176 rfl) rfl
theorem q531 : (Jvm.Cond.methodLink "java/util/Arrays" (300 : Nat) ({ cls := "java/util/Arrays", name := "copyOf", desc := "([Ljava/lang/Object;ILjava/lang/Class;)[Ljava/lang/Object;" } : Jvm.MethodName)) ∈ lw_all := lw_g (lw_at lw_m2 219 rfl) rfl
theorem q532 : (Jvm.Cond.static ({ cls := "java/util/Arrays", name := "copyOf", desc := "([Ljava/lang/Object;ILjava/lang/Class;)[Ljava/lang/Object;" } : Jvm.MethodName)) ∈ lw_all := lw_g (lw_at lw_m2 220 rfl) rfl
theorem q533 : (Jvm.Cond.code ({ cls := "java/util/Arrays", name := "copyOf", desc := "([Ljava/lang/Object;ILjava/lang/Class;)[Ljava/lang/Object;" } : Jvm.MethodName) prog_65_method_120_code (4 : Nat) (Option.some (Jvm.ClassFile.FieldType.array (Jvm.ClassFile.FieldType.object "java/lang/Object")))) ∈ lw_all := lw_g (lw_at lw_m2 221 rfl) rfl
theorem q534 : (Jvm.Cond.classLink "java/util/Arrays" (110 : Nat) "[Ljava/lang/Object;") ∈ lw_all := lw_g (lw_at lw_m2 222 rfl) rfl
theorem q535 : (Jvm.Cond.classLink "java/util/Arrays" (2 : Nat) "java/lang/Object") ∈ lw_all := lw_g (lw_at lw_m2 223 rfl) rfl
theorem q536 : (Jvm.Cond.methodLink "java/util/Arrays" (304 : Nat) ({ cls := "java/lang/Math", name := "min", desc := "(II)I" } : Jvm.MethodName)) ∈ lw_all := lw_g (lw_at lw_m2 224 rfl) rfl
theorem q539 : (Jvm.Cond.methodLink "java/util/Arrays" (150 : Nat) ({ cls := "java/lang/System", name := "arraycopy", desc := "(Ljava/lang/Object;ILjava/lang/Object;II)V" } : Jvm.MethodName)) ∈ lw_all := lw_g (lw_at lw_m2 227 rfl) rfl
theorem q628 : (Jvm.Cond.static ({ cls := "java/util/Arrays", name := "copyOf", desc := "([BI)[B" } : Jvm.MethodName)) ∈ lw_all := lw_g (lw_at lw_m3 76 rfl) rfl
theorem q629 : (Jvm.Cond.code ({ cls := "java/util/Arrays", name := "copyOf", desc := "([BI)[B" } : Jvm.MethodName) prog_65_method_121_code (3 : Nat) (Option.some (Jvm.ClassFile.FieldType.array Jvm.ClassFile.FieldType.byte))) ∈ lw_all := lw_g (lw_at lw_m3 77 rfl) rfl
theorem q630 : (Jvm.Cond.methodLink "java/util/Arrays" (310 : Nat) ({ cls := "[B", name := "clone", desc := "()Ljava/lang/Object;" } : Jvm.MethodName)) ∈ lw_all := lw_g (lw_at lw_m3 78 rfl) rfl
theorem q636 : (Jvm.Cond.classLink "java/util/Arrays" (311 : Nat) "[B") ∈ lw_all := lw_g (lw_at lw_m3 84 rfl) rfl
theorem q740 : (Jvm.Cond.static ({ cls := "java/util/Arrays", name := "copyOfRange", desc := "([BII)[B" } : Jvm.MethodName)) ∈ lw_all := lw_g (lw_at lw_m3 188 rfl) rfl
theorem q741 : (Jvm.Cond.code ({ cls := "java/util/Arrays", name := "copyOfRange", desc := "([BII)[B" } : Jvm.MethodName) prog_65_method_132_code (3 : Nat) (Option.some (Jvm.ClassFile.FieldType.array Jvm.ClassFile.FieldType.byte))) ∈ lw_all := lw_g (lw_at lw_m3 189 rfl) rfl
theorem q742 : (Jvm.Cond.methodLink "java/util/Arrays" (339 : Nat) ({ cls := "java/util/Arrays", name := "copyOfRangeByte", desc := "([BII)[B" } : Jvm.MethodName)) ∈ lw_all := lw_g (lw_at lw_m3 190 rfl) rfl
theorem q743 : (Jvm.Cond.static ({ cls := "java/util/Arrays", name := "copyOfRangeByte", desc := "([BII)[B" } : Jvm.MethodName)) ∈ lw_all := lw_g (lw_at lw_m3 191 rfl) rfl
theorem q744 : (Jvm.Cond.code ({ cls := "java/util/Arrays", name := "copyOfRangeByte", desc := "([BII)[B" } : Jvm.MethodName) prog_65_method_133_code (5 : Nat) (Option.some (Jvm.ClassFile.FieldType.array Jvm.ClassFile.FieldType.byte))) ∈ lw_all := lw_g (lw_at lw_m3 192 rfl) rfl
theorem q745 : (Jvm.Cond.methodLink "java/util/Arrays" (343 : Nat) ({ cls := "java/util/Arrays", name := "checkLength", desc := "(II)V" } : Jvm.MethodName)) ∈ lw_all := lw_g (lw_at lw_m3 193 rfl) rfl
theorem q746 : (Jvm.Cond.static ({ cls := "java/util/Arrays", name := "checkLength", desc := "(II)V" } : Jvm.MethodName)) ∈ lw_all := lw_g (lw_at lw_m3 194 rfl) rfl
theorem q747 : (Jvm.Cond.code ({ cls := "java/util/Arrays", name := "checkLength", desc := "(II)V" } : Jvm.MethodName) prog_65_method_131_code (2 : Nat) (Option.none : Option Jvm.ClassFile.FieldType)) ∈ lw_all := lw_g (lw_at lw_m3 195 rfl) rfl
theorem q748 : (Jvm.Cond.classLink "java/util/Arrays" (43 : Nat) "java/lang/IllegalArgumentException") ∈ lw_all := lw_g (lw_at lw_m3 196 rfl) rfl
theorem q749 : (Jvm.Cond.classLink "java/util/Arrays" (45 : Nat) "java/lang/StringBuilder") ∈ lw_all := lw_g (lw_at lw_m3 197 rfl) rfl
theorem q750 : (Jvm.Cond.methodLink "java/util/Arrays" (47 : Nat) ({ cls := "java/lang/StringBuilder", name := "<init>", desc := "()V" } : Jvm.MethodName)) ∈ lw_all := lw_g (lw_at lw_m3 198 rfl) rfl
theorem q751 : (Jvm.Cond.methodLink "java/util/Arrays" (54 : Nat) ({ cls := "java/lang/StringBuilder", name := "append", desc := "(I)Ljava/lang/StringBuilder;" } : Jvm.MethodName)) ∈ lw_all := lw_g (lw_at lw_m3 199 rfl) rfl
theorem q785 : (Jvm.Cond.stringRef "java/util/Arrays" (337 : Nat) " > ") ∈ lw_tbl := lw_at lw_m3 233 rfl
theorem q786 : (Jvm.Cond.methodLink "java/util/Arrays" (50 : Nat) ({ cls := "java/lang/StringBuilder", name := "append", desc := "(Ljava/lang/String;)Ljava/lang/StringBuilder;" } : Jvm.MethodName)) ∈ lw_all := lw_g (lw_at lw_m3 234 rfl) rfl
theorem q824 : (Jvm.Cond.methodLink "java/util/Arrays" (61 : Nat) ({ cls := "java/lang/StringBuilder", name := "toString", desc := "()Ljava/lang/String;" } : Jvm.MethodName)) ∈ lw_all := lw_g (lw_at lw_m4 32 rfl) rfl
theorem q825 : (Jvm.Cond.methodLink "java/util/Arrays" (65 : Nat) ({ cls := "java/lang/IllegalArgumentException", name := "<init>", desc := "(Ljava/lang/String;)V" } : Jvm.MethodName)) ∈ lw_all := lw_g (lw_at lw_m4 33 rfl) rfl
theorem q907 : (Jvm.Cond.static ({ cls := "java/util/Arrays", name := "fill", desc := "([BIIB)V" } : Jvm.MethodName)) ∈ lw_all := lw_g (lw_at lw_m4 115 rfl) rfl
theorem q908 : (Jvm.Cond.code ({ cls := "java/util/Arrays", name := "fill", desc := "([BIIB)V" } : Jvm.MethodName) prog_65_method_110_code (5 : Nat) (Option.none : Option Jvm.ClassFile.FieldType)) ∈ lw_all := lw_g (lw_at lw_m4 116 rfl) rfl
theorem q909 : (Jvm.Cond.methodLink "java/util/Arrays" (13 : Nat) ({ cls := "java/util/Arrays", name := "rangeCheck", desc := "(III)V" } : Jvm.MethodName)) ∈ lw_all := lw_g (lw_at lw_m4 117 rfl) rfl
theorem q910 : (Jvm.Cond.static ({ cls := "java/util/Arrays", name := "rangeCheck", desc := "(III)V" } : Jvm.MethodName)) ∈ lw_all := lw_g (lw_at lw_m4 118 rfl) rfl
theorem q911 : (Jvm.Cond.code ({ cls := "java/util/Arrays", name := "rangeCheck", desc := "(III)V" } : Jvm.MethodName) prog_65_method_30_code (3 : Nat) (Option.none : Option Jvm.ClassFile.FieldType)) ∈ lw_all := lw_g (lw_at lw_m4 119 rfl) rfl
theorem q912 : (Jvm.Cond.stringRef "java/util/Arrays" (48 : Nat) "fromIndex(") ∈ lw_tbl := lw_at lw_m4 120 rfl
theorem q913 : (Jvm.Cond.stringRef "java/util/Arrays" (57 : Nat) ") > toIndex(") ∈ lw_tbl := lw_at lw_m4 121 rfl
theorem q914 : (Jvm.Cond.stringRef "java/util/Arrays" (59 : Nat) ")") ∈ lw_tbl := lw_at lw_m4 122 rfl
theorem q915 : (Jvm.Cond.classLink "java/util/Arrays" (68 : Nat) "java/lang/ArrayIndexOutOfBoundsException") ∈ lw_all := lw_g (lw_at lw_m4 123 rfl) rfl
theorem q926 : (Jvm.Cond.methodLink "java/util/Arrays" (70 : Nat) ({ cls := "java/lang/ArrayIndexOutOfBoundsException", name := "<init>", desc := "(I)V" } : Jvm.MethodName)) ∈ lw_all := lw_g (lw_at lw_m4 134 rfl) rfl
/-! java/lang/StringLatin1 -/
set_option maxRecDepth 100000
def RJ16 : String := "java/lang/StringLatin1"
abbrev cJ16_canEncode : ByteArray := prog_50_method_3_code
def yJ16_canEncode : MethodName := ⟨RJ16, "canEncode", "(C)Z"⟩
def dkwJ16_canEncode_0 : List UInt8 := [26, 17, 0, 255, 163, 0, 7, 4, 167, 0, 4, 3, 172]
abbrev dktJ16_canEncode_0 : List UInt8 := dkwJ16_canEncode_0 ++ []
theorem dksJ16_canEncode_0 : cJ16_canEncode.data.toList.drop 0 = dktJ16_canEncode_0 := by decide +kernel
theorem dJ16_canEncode_0 : decode cJ16_canEncode 0 = .ok (.iload_n 0, 1) := dk_26 (dk_at dksJ16_canEncode_0 0 rfl rfl)
theorem dJ16_canEncode_1 : decode cJ16_canEncode 1 = .ok (.sipush 255, 3) := dk_17 0 255 (dk_at dksJ16_canEncode_0 1 rfl rfl)
theorem dJ16_canEncode_4 : decode cJ16_canEncode 4 = .ok (.if_icmp .gt 7, 3) := dk_163 0 7 (dk_at dksJ16_canEncode_0 4 rfl rfl)
theorem dJ16_canEncode_7 : decode cJ16_canEncode 7 = .ok (.iconst 1, 1) := dk_4 (dk_at dksJ16_canEncode_0 7 rfl rfl)
theorem dJ16_canEncode_8 : decode cJ16_canEncode 8 = .ok (.goto 4, 3) := dk_167 0 4 (dk_at dksJ16_canEncode_0 8 rfl rfl)
theorem dJ16_canEncode_11 : decode cJ16_canEncode 11 = .ok (.iconst 0, 1) := dk_3 (dk_at dksJ16_canEncode_0 11 rfl rfl)
theorem dJ16_canEncode_12 : decode cJ16_canEncode 12 = .ok (.ireturn, 1) := dk_172 (dk_at dksJ16_canEncode_0 12 rfl rfl)
abbrev cJ16_inflate : ByteArray := prog_50_method_50_code
def yJ16_inflate : MethodName := ⟨RJ16, "inflate", "([BI[BII)V"⟩
def dkwJ16_inflate_0 : List UInt8 := [42, 27, 44, 29, 21, 4, 184, 0, 240, 177]
abbrev dktJ16_inflate_0 : List UInt8 := dkwJ16_inflate_0 ++ []
theorem dksJ16_inflate_0 : cJ16_inflate.data.toList.drop 0 = dktJ16_inflate_0 := by decide +kernel
theorem dJ16_inflate_0 : decode cJ16_inflate 0 = .ok (.aload_n 0, 1) := dk_42 (dk_at dksJ16_inflate_0 0 rfl rfl)
theorem dJ16_inflate_1 : decode cJ16_inflate 1 = .ok (.iload_n 1, 1) := dk_27 (dk_at dksJ16_inflate_0 1 rfl rfl)
theorem dJ16_inflate_2 : decode cJ16_inflate 2 = .ok (.aload_n 2, 1) := dk_44 (dk_at dksJ16_inflate_0 2 rfl rfl)
theorem dJ16_inflate_3 : decode cJ16_inflate 3 = .ok (.iload_n 3, 1) := dk_29 (dk_at dksJ16_inflate_0 3 rfl rfl)
theorem dJ16_inflate_4 : decode cJ16_inflate 4 = .ok (.iload 4, 2) := dk_21 4 (dk_at dksJ16_inflate_0 4 rfl rfl)
theorem dJ16_inflate_6 : decode cJ16_inflate 6 = .ok (.invokestatic 240, 3) := dk_184 0 240 (dk_at dksJ16_inflate_0 6 rfl rfl)
theorem dJ16_inflate_9 : decode cJ16_inflate 9 = .ok (.return_, 1) := dk_177 (dk_at dksJ16_inflate_0 9 rfl rfl)
abbrev cJ16_fillNull : ByteArray := prog_50_method_48_code
def yJ16_fillNull : MethodName := ⟨RJ16, "fillNull", "([BII)V"⟩
def dkwJ16_fillNull_0 : List UInt8 := [42, 27, 28, 3, 184, 0, 236, 177]
abbrev dktJ16_fillNull_0 : List UInt8 := dkwJ16_fillNull_0 ++ []
theorem dksJ16_fillNull_0 : cJ16_fillNull.data.toList.drop 0 = dktJ16_fillNull_0 := by decide +kernel
theorem dJ16_fillNull_0 : decode cJ16_fillNull 0 = .ok (.aload_n 0, 1) := dk_42 (dk_at dksJ16_fillNull_0 0 rfl rfl)
theorem dJ16_fillNull_1 : decode cJ16_fillNull 1 = .ok (.iload_n 1, 1) := dk_27 (dk_at dksJ16_fillNull_0 1 rfl rfl)
theorem dJ16_fillNull_2 : decode cJ16_fillNull 2 = .ok (.iload_n 2, 1) := dk_28 (dk_at dksJ16_fillNull_0 2 rfl rfl)
theorem dJ16_fillNull_3 : decode cJ16_fillNull 3 = .ok (.iconst 0, 1) := dk_3 (dk_at dksJ16_fillNull_0 3 rfl rfl)
theorem dJ16_fillNull_4 : decode cJ16_fillNull 4 = .ok (.invokestatic 236, 3) := dk_184 0 236 (dk_at dksJ16_fillNull_0 4 rfl rfl)
theorem dJ16_fillNull_7 : decode cJ16_fillNull 7 = .ok (.return_, 1) := dk_177 (dk_at dksJ16_fillNull_0 7 rfl rfl)
abbrev cJ16_charAt : ByteArray := prog_50_method_2_code
def yJ16_charAt : MethodName := ⟨RJ16, "charAt", "([BI)C"⟩
def dkwJ16_charAt_0 : List UInt8 := [27, 42, 190, 184, 0, 9, 42, 27, 51, 17, 0, 255, 126, 146, 172]
abbrev dktJ16_charAt_0 : List UInt8 := dkwJ16_charAt_0 ++ []
theorem dksJ16_charAt_0 : cJ16_charAt.data.toList.drop 0 = dktJ16_charAt_0 := by decide +kernel
theorem dJ16_charAt_0 : decode cJ16_charAt 0 = .ok (.iload_n 1, 1) := dk_27 (dk_at dksJ16_charAt_0 0 rfl rfl)
theorem dJ16_charAt_1 : decode cJ16_charAt 1 = .ok (.aload_n 0, 1) := dk_42 (dk_at dksJ16_charAt_0 1 rfl rfl)
theorem dJ16_charAt_2 : decode cJ16_charAt 2 = .ok (.arraylength, 1) := dk_190 (dk_at dksJ16_charAt_0 2 rfl rfl)
theorem dJ16_charAt_3 : decode cJ16_charAt 3 = .ok (.invokestatic 9, 3) := dk_184 0 9 (dk_at dksJ16_charAt_0 3 rfl rfl)
theorem dJ16_charAt_6 : decode cJ16_charAt 6 = .ok (.aload_n 0, 1) := dk_42 (dk_at dksJ16_charAt_0 6 rfl rfl)
theorem dJ16_charAt_7 : decode cJ16_charAt 7 = .ok (.iload_n 1, 1) := dk_27 (dk_at dksJ16_charAt_0 7 rfl rfl)
theorem dJ16_charAt_8 : decode cJ16_charAt 8 = .ok (.baload, 1) := dk_51 (dk_at dksJ16_charAt_0 8 rfl rfl)
theorem dJ16_charAt_9 : decode cJ16_charAt 9 = .ok (.sipush 255, 3) := dk_17 0 255 (dk_at dksJ16_charAt_0 9 rfl rfl)
theorem dJ16_charAt_12 : decode cJ16_charAt 12 = .ok (.iand, 1) := dk_126 (dk_at dksJ16_charAt_0 12 rfl rfl)
theorem dJ16_charAt_13 : decode cJ16_charAt 13 = .ok (.i2c, 1) := dk_146 (dk_at dksJ16_charAt_0 13 rfl rfl)
theorem dJ16_charAt_14 : decode cJ16_charAt 14 = .ok (.ireturn, 1) := dk_172 (dk_at dksJ16_charAt_0 14 rfl rfl)
abbrev cJ16_newString : ByteArray := prog_50_method_47_code
def yJ16_newString : MethodName := ⟨RJ16, "newString", "([BII)Ljava/lang/String;"⟩
def dkwJ16_newString_0 : List UInt8 := [28, 154, 0, 6, 18, 151, 176, 187, 0, 1, 89, 42, 27, 27, 28, 96, 184, 0, 232, 3, 183, 0, 112, 176]
abbrev dktJ16_newString_0 : List UInt8 := dkwJ16_newString_0 ++ []
theorem dksJ16_newString_0 : cJ16_newString.data.toList.drop 0 = dktJ16_newString_0 := by decide +kernel
theorem dJ16_newString_0 : decode cJ16_newString 0 = .ok (.iload_n 2, 1) := dk_28 (dk_at dksJ16_newString_0 0 rfl rfl)
theorem dJ16_newString_1 : decode cJ16_newString 1 = .ok (.ifCond .ne 6, 3) := dk_154 0 6 (dk_at dksJ16_newString_0 1 rfl rfl)
theorem dJ16_newString_4 : decode cJ16_newString 4 = .ok (.ldc 151, 2) := dk_18 151 (dk_at dksJ16_newString_0 4 rfl rfl)
theorem dJ16_newString_6 : decode cJ16_newString 6 = .ok (.areturn, 1) := dk_176 (dk_at dksJ16_newString_0 6 rfl rfl)
theorem dJ16_newString_7 : decode cJ16_newString 7 = .ok (.new 1, 3) := dk_187 0 1 (dk_at dksJ16_newString_0 7 rfl rfl)
theorem dJ16_newString_10 : decode cJ16_newString 10 = .ok (.dup, 1) := dk_89 (dk_at dksJ16_newString_0 10 rfl rfl)
theorem dJ16_newString_11 : decode cJ16_newString 11 = .ok (.aload_n 0, 1) := dk_42 (dk_at dksJ16_newString_0 11 rfl rfl)
theorem dJ16_newString_12 : decode cJ16_newString 12 = .ok (.iload_n 1, 1) := dk_27 (dk_at dksJ16_newString_0 12 rfl rfl)
theorem dJ16_newString_13 : decode cJ16_newString 13 = .ok (.iload_n 1, 1) := dk_27 (dk_at dksJ16_newString_0 13 rfl rfl)
theorem dJ16_newString_14 : decode cJ16_newString 14 = .ok (.iload_n 2, 1) := dk_28 (dk_at dksJ16_newString_0 14 rfl rfl)
theorem dJ16_newString_15 : decode cJ16_newString 15 = .ok (.iadd, 1) := dk_96 (dk_at dksJ16_newString_0 15 rfl rfl)
theorem dJ16_newString_16 : decode cJ16_newString 16 = .ok (.invokestatic 232, 3) := dk_184 0 232 (dk_at dksJ16_newString_0 16 rfl rfl)
theorem dJ16_newString_19 : decode cJ16_newString 19 = .ok (.iconst 0, 1) := dk_3 (dk_at dksJ16_newString_0 19 rfl rfl)
theorem dJ16_newString_20 : decode cJ16_newString 20 = .ok (.invokespecial 112, 3) := dk_183 0 112 (dk_at dksJ16_newString_0 20 rfl rfl)
theorem dJ16_newString_23 : decode cJ16_newString 23 = .ok (.areturn, 1) := dk_176 (dk_at dksJ16_newString_0 23 rfl rfl)
abbrev cJ16_equals : ByteArray := prog_50_method_13_code
def yJ16_equals : MethodName := ⟨RJ16, "equals", "([B[B)Z"⟩
def dkwJ16_equals_1 : List UInt8 := [3, 172, 132, 2, 1, 167, 255, 236, 4, 172, 3, 172]
abbrev dktJ16_equals_1 : List UInt8 := dkwJ16_equals_1 ++ []
def dkwJ16_equals_0 : List UInt8 := [42, 190, 43, 190, 160, 0, 30, 3, 61, 28, 42, 190, 162, 0, 20, 42, 28, 51, 43, 28, 51, 159, 0, 5]
abbrev dktJ16_equals_0 : List UInt8 := dkwJ16_equals_0 ++ dktJ16_equals_1
theorem dksJ16_equals_0 : cJ16_equals.data.toList.drop 0 = dktJ16_equals_0 := by decide +kernel
theorem dksJ16_equals_1 : cJ16_equals.data.toList.drop 24 = dktJ16_equals_1 := dk_seg dksJ16_equals_0 24 rfl rfl
theorem dJ16_equals_0 : decode cJ16_equals 0 = .ok (.aload_n 0, 1) := dk_42 (dk_at dksJ16_equals_0 0 rfl rfl)
theorem dJ16_equals_1 : decode cJ16_equals 1 = .ok (.arraylength, 1) := dk_190 (dk_at dksJ16_equals_0 1 rfl rfl)
theorem dJ16_equals_2 : decode cJ16_equals 2 = .ok (.aload_n 1, 1) := dk_43 (dk_at dksJ16_equals_0 2 rfl rfl)
theorem dJ16_equals_3 : decode cJ16_equals 3 = .ok (.arraylength, 1) := dk_190 (dk_at dksJ16_equals_0 3 rfl rfl)
theorem dJ16_equals_4 : decode cJ16_equals 4 = .ok (.if_icmp .ne 30, 3) := dk_160 0 30 (dk_at dksJ16_equals_0 4 rfl rfl)
theorem dJ16_equals_7 : decode cJ16_equals 7 = .ok (.iconst 0, 1) := dk_3 (dk_at dksJ16_equals_0 7 rfl rfl)
theorem dJ16_equals_8 : decode cJ16_equals 8 = .ok (.istore_n 2, 1) := dk_61 (dk_at dksJ16_equals_0 8 rfl rfl)
theorem dJ16_equals_9 : decode cJ16_equals 9 = .ok (.iload_n 2, 1) := dk_28 (dk_at dksJ16_equals_0 9 rfl rfl)
theorem dJ16_equals_10 : decode cJ16_equals 10 = .ok (.aload_n 0, 1) := dk_42 (dk_at dksJ16_equals_0 10 rfl rfl)
theorem dJ16_equals_11 : decode cJ16_equals 11 = .ok (.arraylength, 1) := dk_190 (dk_at dksJ16_equals_0 11 rfl rfl)
theorem dJ16_equals_12 : decode cJ16_equals 12 = .ok (.if_icmp .ge 20, 3) := dk_162 0 20 (dk_at dksJ16_equals_0 12 rfl rfl)
theorem dJ16_equals_15 : decode cJ16_equals 15 = .ok (.aload_n 0, 1) := dk_42 (dk_at dksJ16_equals_0 15 rfl rfl)
theorem dJ16_equals_16 : decode cJ16_equals 16 = .ok (.iload_n 2, 1) := dk_28 (dk_at dksJ16_equals_0 16 rfl rfl)
theorem dJ16_equals_17 : decode cJ16_equals 17 = .ok (.baload, 1) := dk_51 (dk_at dksJ16_equals_0 17 rfl rfl)
theorem dJ16_equals_18 : decode cJ16_equals 18 = .ok (.aload_n 1, 1) := dk_43 (dk_at dksJ16_equals_0 18 rfl rfl)
theorem dJ16_equals_19 : decode cJ16_equals 19 = .ok (.iload_n 2, 1) := dk_28 (dk_at dksJ16_equals_0 19 rfl rfl)
theorem dJ16_equals_20 : decode cJ16_equals 20 = .ok (.baload, 1) := dk_51 (dk_at dksJ16_equals_0 20 rfl rfl)
theorem dJ16_equals_21 : decode cJ16_equals 21 = .ok (.if_icmp .eq 5, 3) := dk_159 0 5 (dk_at dksJ16_equals_0 21 rfl rfl)
theorem dJ16_equals_24 : decode cJ16_equals 24 = .ok (.iconst 0, 1) := dk_3 (dk_at dksJ16_equals_1 0 rfl rfl)
theorem dJ16_equals_25 : decode cJ16_equals 25 = .ok (.ireturn, 1) := dk_172 (dk_at dksJ16_equals_1 1 rfl rfl)
theorem dJ16_equals_26 : decode cJ16_equals 26 = .ok (.iinc 2 1, 3) := dk_132 2 1 (dk_at dksJ16_equals_1 2 rfl rfl)
theorem dJ16_equals_29 : decode cJ16_equals 29 = .ok (.goto (-20), 3) := dk_167 255 236 (dk_at dksJ16_equals_1 5 rfl rfl)
theorem dJ16_equals_32 : decode cJ16_equals 32 = .ok (.iconst 1, 1) := dk_4 (dk_at dksJ16_equals_1 8 rfl rfl)
theorem dJ16_equals_33 : decode cJ16_equals 33 = .ok (.ireturn, 1) := dk_172 (dk_at dksJ16_equals_1 9 rfl rfl)
theorem dJ16_equals_34 : decode cJ16_equals 34 = .ok (.iconst 0, 1) := dk_3 (dk_at dksJ16_equals_1 10 rfl rfl)
theorem dJ16_equals_35 : decode cJ16_equals 35 = .ok (.ireturn, 1) := dk_172 (dk_at dksJ16_equals_1 11 rfl rfl)
abbrev cJ16_hashCode : ByteArray := prog_50_method_21_code
def yJ16_hashCode : MethodName := ⟨RJ16, "hashCode", "([B)I"⟩
def dkwJ16_hashCode_2 : List UInt8 := [3, 167, 0, 22, 42, 3, 51, 17, 0, 255, 126, 167, 0, 12, 42, 3, 42, 190, 3, 7, 184, 0, 84, 172]
abbrev dktJ16_hashCode_2 : List UInt8 := dkwJ16_hashCode_2 ++ []
def dkwJ16_hashCode_1 : List UInt8 := [171, 0, 0, 0, 0, 40, 0, 0, 0, 2, 0, 0, 0, 0, 0, 0, 0, 26, 0, 0, 0, 1, 0, 0, 0, 30]
abbrev dktJ16_hashCode_1 : List UInt8 := dkwJ16_hashCode_1 ++ dktJ16_hashCode_2
def dkwJ16_hashCode_0 : List UInt8 := [42, 190]
abbrev dktJ16_hashCode_0 : List UInt8 := dkwJ16_hashCode_0 ++ dktJ16_hashCode_1
theorem dksJ16_hashCode_0 : cJ16_hashCode.data.toList.drop 0 = dktJ16_hashCode_0 := by decide +kernel
theorem dksJ16_hashCode_1 : cJ16_hashCode.data.toList.drop 2 = dktJ16_hashCode_1 := dk_seg dksJ16_hashCode_0 2 rfl rfl
theorem dksJ16_hashCode_2 : cJ16_hashCode.data.toList.drop 28 = dktJ16_hashCode_2 := dk_seg dksJ16_hashCode_1 26 rfl rfl
theorem dJ16_hashCode_0 : decode cJ16_hashCode 0 = .ok (.aload_n 0, 1) := dk_42 (dk_at dksJ16_hashCode_0 0 rfl rfl)
theorem dJ16_hashCode_1 : decode cJ16_hashCode 1 = .ok (.arraylength, 1) := dk_190 (dk_at dksJ16_hashCode_0 1 rfl rfl)
theorem dJ16_hashCode_2 : decode cJ16_hashCode 2 = .ok (.lookupswitch 40 #[(0, 26), (1, 30)], 26) := by decide +kernel
theorem dJ16_hashCode_28 : decode cJ16_hashCode 28 = .ok (.iconst 0, 1) := dk_3 (dk_at dksJ16_hashCode_2 0 rfl rfl)
theorem dJ16_hashCode_29 : decode cJ16_hashCode 29 = .ok (.goto 22, 3) := dk_167 0 22 (dk_at dksJ16_hashCode_2 1 rfl rfl)
theorem dJ16_hashCode_32 : decode cJ16_hashCode 32 = .ok (.aload_n 0, 1) := dk_42 (dk_at dksJ16_hashCode_2 4 rfl rfl)
theorem dJ16_hashCode_33 : decode cJ16_hashCode 33 = .ok (.iconst 0, 1) := dk_3 (dk_at dksJ16_hashCode_2 5 rfl rfl)
theorem dJ16_hashCode_34 : decode cJ16_hashCode 34 = .ok (.baload, 1) := dk_51 (dk_at dksJ16_hashCode_2 6 rfl rfl)
theorem dJ16_hashCode_35 : decode cJ16_hashCode 35 = .ok (.sipush 255, 3) := dk_17 0 255 (dk_at dksJ16_hashCode_2 7 rfl rfl)
theorem dJ16_hashCode_38 : decode cJ16_hashCode 38 = .ok (.iand, 1) := dk_126 (dk_at dksJ16_hashCode_2 10 rfl rfl)
theorem dJ16_hashCode_39 : decode cJ16_hashCode 39 = .ok (.goto 12, 3) := dk_167 0 12 (dk_at dksJ16_hashCode_2 11 rfl rfl)
theorem dJ16_hashCode_42 : decode cJ16_hashCode 42 = .ok (.aload_n 0, 1) := dk_42 (dk_at dksJ16_hashCode_2 14 rfl rfl)
theorem dJ16_hashCode_43 : decode cJ16_hashCode 43 = .ok (.iconst 0, 1) := dk_3 (dk_at dksJ16_hashCode_2 15 rfl rfl)
theorem dJ16_hashCode_44 : decode cJ16_hashCode 44 = .ok (.aload_n 0, 1) := dk_42 (dk_at dksJ16_hashCode_2 16 rfl rfl)
theorem dJ16_hashCode_45 : decode cJ16_hashCode 45 = .ok (.arraylength, 1) := dk_190 (dk_at dksJ16_hashCode_2 17 rfl rfl)
theorem dJ16_hashCode_46 : decode cJ16_hashCode 46 = .ok (.iconst 0, 1) := dk_3 (dk_at dksJ16_hashCode_2 18 rfl rfl)
theorem dJ16_hashCode_47 : decode cJ16_hashCode 47 = .ok (.iconst 4, 1) := dk_7 (dk_at dksJ16_hashCode_2 19 rfl rfl)
theorem dJ16_hashCode_48 : decode cJ16_hashCode 48 = .ok (.invokestatic 84, 3) := dk_184 0 84 (dk_at dksJ16_hashCode_2 20 rfl rfl)
theorem dJ16_hashCode_51 : decode cJ16_hashCode 51 = .ok (.ireturn, 1) := dk_172 (dk_at dksJ16_hashCode_2 23 rfl rfl)
abbrev cJ16_compareTo : ByteArray := prog_50_method_14_code
def yJ16_compareTo : MethodName := ⟨RJ16, "compareTo", "([B[B)I"⟩
def dkwJ16_compareTo_0 : List UInt8 := [42, 190, 61, 43, 190, 62, 42, 43, 28, 29, 184, 0, 34, 172]
abbrev dktJ16_compareTo_0 : List UInt8 := dkwJ16_compareTo_0 ++ []
theorem dksJ16_compareTo_0 : cJ16_compareTo.data.toList.drop 0 = dktJ16_compareTo_0 := by decide +kernel
theorem dJ16_compareTo_0 : decode cJ16_compareTo 0 = .ok (.aload_n 0, 1) := dk_42 (dk_at dksJ16_compareTo_0 0 rfl rfl)
theorem dJ16_compareTo_1 : decode cJ16_compareTo 1 = .ok (.arraylength, 1) := dk_190 (dk_at dksJ16_compareTo_0 1 rfl rfl)
theorem dJ16_compareTo_2 : decode cJ16_compareTo 2 = .ok (.istore_n 2, 1) := dk_61 (dk_at dksJ16_compareTo_0 2 rfl rfl)
theorem dJ16_compareTo_3 : decode cJ16_compareTo 3 = .ok (.aload_n 1, 1) := dk_43 (dk_at dksJ16_compareTo_0 3 rfl rfl)
theorem dJ16_compareTo_4 : decode cJ16_compareTo 4 = .ok (.arraylength, 1) := dk_190 (dk_at dksJ16_compareTo_0 4 rfl rfl)
theorem dJ16_compareTo_5 : decode cJ16_compareTo 5 = .ok (.istore_n 3, 1) := dk_62 (dk_at dksJ16_compareTo_0 5 rfl rfl)
theorem dJ16_compareTo_6 : decode cJ16_compareTo 6 = .ok (.aload_n 0, 1) := dk_42 (dk_at dksJ16_compareTo_0 6 rfl rfl)
theorem dJ16_compareTo_7 : decode cJ16_compareTo 7 = .ok (.aload_n 1, 1) := dk_43 (dk_at dksJ16_compareTo_0 7 rfl rfl)
theorem dJ16_compareTo_8 : decode cJ16_compareTo 8 = .ok (.iload_n 2, 1) := dk_28 (dk_at dksJ16_compareTo_0 8 rfl rfl)
theorem dJ16_compareTo_9 : decode cJ16_compareTo 9 = .ok (.iload_n 3, 1) := dk_29 (dk_at dksJ16_compareTo_0 9 rfl rfl)
theorem dJ16_compareTo_10 : decode cJ16_compareTo 10 = .ok (.invokestatic 34, 3) := dk_184 0 34 (dk_at dksJ16_compareTo_0 10 rfl rfl)
theorem dJ16_compareTo_13 : decode cJ16_compareTo 13 = .ok (.ireturn, 1) := dk_172 (dk_at dksJ16_compareTo_0 13 rfl rfl)
abbrev cJ16_compareTo_2 : ByteArray := prog_50_method_15_code
def yJ16_compareTo_2 : MethodName := ⟨RJ16, "compareTo", "([B[BII)I"⟩
def dkwJ16_compareTo_2_1 : List UInt8 := [167, 0, 16, 42, 21, 5, 184, 0, 50, 43, 21, 5, 184, 0, 50, 100, 172]
abbrev dktJ16_compareTo_2_1 : List UInt8 := dkwJ16_compareTo_2_1 ++ []
def dkwJ16_compareTo_2_0 : List UInt8 := [28, 29, 184, 0, 38, 54, 4, 42, 43, 21, 4, 184, 0, 44, 54, 5, 21, 5, 156, 0, 9, 28, 29, 100]
abbrev dktJ16_compareTo_2_0 : List UInt8 := dkwJ16_compareTo_2_0 ++ dktJ16_compareTo_2_1
theorem dksJ16_compareTo_2_0 : cJ16_compareTo_2.data.toList.drop 0 = dktJ16_compareTo_2_0 := by decide +kernel
theorem dksJ16_compareTo_2_1 : cJ16_compareTo_2.data.toList.drop 24 = dktJ16_compareTo_2_1 := dk_seg dksJ16_compareTo_2_0 24 rfl rfl
theorem dJ16_compareTo_2_0 : decode cJ16_compareTo_2 0 = .ok (.iload_n 2, 1) := dk_28 (dk_at dksJ16_compareTo_2_0 0 rfl rfl)
theorem dJ16_compareTo_2_1 : decode cJ16_compareTo_2 1 = .ok (.iload_n 3, 1) := dk_29 (dk_at dksJ16_compareTo_2_0 1 rfl rfl)
theorem dJ16_compareTo_2_2 : decode cJ16_compareTo_2 2 = .ok (.invokestatic 38, 3) := dk_184 0 38 (dk_at dksJ16_compareTo_2_0 2 rfl rfl)
theorem dJ16_compareTo_2_5 : decode cJ16_compareTo_2 5 = .ok (.istore 4, 2) := dk_54 4 (dk_at dksJ16_compareTo_2_0 5 rfl rfl)
theorem dJ16_compareTo_2_7 : decode cJ16_compareTo_2 7 = .ok (.aload_n 0, 1) := dk_42 (dk_at dksJ16_compareTo_2_0 7 rfl rfl)
theorem dJ16_compareTo_2_8 : decode cJ16_compareTo_2 8 = .ok (.aload_n 1, 1) := dk_43 (dk_at dksJ16_compareTo_2_0 8 rfl rfl)
theorem dJ16_compareTo_2_9 : decode cJ16_compareTo_2 9 = .ok (.iload 4, 2) := dk_21 4 (dk_at dksJ16_compareTo_2_0 9 rfl rfl)
theorem dJ16_compareTo_2_11 : decode cJ16_compareTo_2 11 = .ok (.invokestatic 44, 3) := dk_184 0 44 (dk_at dksJ16_compareTo_2_0 11 rfl rfl)
theorem dJ16_compareTo_2_14 : decode cJ16_compareTo_2 14 = .ok (.istore 5, 2) := dk_54 5 (dk_at dksJ16_compareTo_2_0 14 rfl rfl)
theorem dJ16_compareTo_2_16 : decode cJ16_compareTo_2 16 = .ok (.iload 5, 2) := dk_21 5 (dk_at dksJ16_compareTo_2_0 16 rfl rfl)
theorem dJ16_compareTo_2_18 : decode cJ16_compareTo_2 18 = .ok (.ifCond .ge 9, 3) := dk_156 0 9 (dk_at dksJ16_compareTo_2_0 18 rfl rfl)
theorem dJ16_compareTo_2_21 : decode cJ16_compareTo_2 21 = .ok (.iload_n 2, 1) := dk_28 (dk_at dksJ16_compareTo_2_0 21 rfl rfl)
theorem dJ16_compareTo_2_22 : decode cJ16_compareTo_2 22 = .ok (.iload_n 3, 1) := dk_29 (dk_at dksJ16_compareTo_2_0 22 rfl rfl)
theorem dJ16_compareTo_2_23 : decode cJ16_compareTo_2 23 = .ok (.isub, 1) := dk_100 (dk_at dksJ16_compareTo_2_0 23 rfl rfl)
theorem dJ16_compareTo_2_24 : decode cJ16_compareTo_2 24 = .ok (.goto 16, 3) := dk_167 0 16 (dk_at dksJ16_compareTo_2_1 0 rfl rfl)
theorem dJ16_compareTo_2_27 : decode cJ16_compareTo_2 27 = .ok (.aload_n 0, 1) := dk_42 (dk_at dksJ16_compareTo_2_1 3 rfl rfl)
theorem dJ16_compareTo_2_28 : decode cJ16_compareTo_2 28 = .ok (.iload 5, 2) := dk_21 5 (dk_at dksJ16_compareTo_2_1 4 rfl rfl)
theorem dJ16_compareTo_2_30 : decode cJ16_compareTo_2 30 = .ok (.invokestatic 50, 3) := dk_184 0 50 (dk_at dksJ16_compareTo_2_1 6 rfl rfl)
theorem dJ16_compareTo_2_33 : decode cJ16_compareTo_2 33 = .ok (.aload_n 1, 1) := dk_43 (dk_at dksJ16_compareTo_2_1 9 rfl rfl)
theorem dJ16_compareTo_2_34 : decode cJ16_compareTo_2 34 = .ok (.iload 5, 2) := dk_21 5 (dk_at dksJ16_compareTo_2_1 10 rfl rfl)
theorem dJ16_compareTo_2_36 : decode cJ16_compareTo_2 36 = .ok (.invokestatic 50, 3) := dk_184 0 50 (dk_at dksJ16_compareTo_2_1 12 rfl rfl)
theorem dJ16_compareTo_2_39 : decode cJ16_compareTo_2 39 = .ok (.isub, 1) := dk_100 (dk_at dksJ16_compareTo_2_1 15 rfl rfl)
theorem dJ16_compareTo_2_40 : decode cJ16_compareTo_2 40 = .ok (.ireturn, 1) := dk_172 (dk_at dksJ16_compareTo_2_1 16 rfl rfl)
abbrev cJ16_getChar : ByteArray := prog_50_method_44_code
def yJ16_getChar : MethodName := ⟨RJ16, "getChar", "([BI)C"⟩
def dkwJ16_getChar_0 : List UInt8 := [42, 27, 51, 17, 0, 255, 126, 146, 172]
abbrev dktJ16_getChar_0 : List UInt8 := dkwJ16_getChar_0 ++ []
theorem dksJ16_getChar_0 : cJ16_getChar.data.toList.drop 0 = dktJ16_getChar_0 := by decide +kernel
theorem dJ16_getChar_0 : decode cJ16_getChar 0 = .ok (.aload_n 0, 1) := dk_42 (dk_at dksJ16_getChar_0 0 rfl rfl)
theorem dJ16_getChar_1 : decode cJ16_getChar 1 = .ok (.iload_n 1, 1) := dk_27 (dk_at dksJ16_getChar_0 1 rfl rfl)
theorem dJ16_getChar_2 : decode cJ16_getChar 2 = .ok (.baload, 1) := dk_51 (dk_at dksJ16_getChar_0 2 rfl rfl)
theorem dJ16_getChar_3 : decode cJ16_getChar 3 = .ok (.sipush 255, 3) := dk_17 0 255 (dk_at dksJ16_getChar_0 3 rfl rfl)
theorem dJ16_getChar_6 : decode cJ16_getChar 6 = .ok (.iand, 1) := dk_126 (dk_at dksJ16_getChar_0 6 rfl rfl)
theorem dJ16_getChar_7 : decode cJ16_getChar 7 = .ok (.i2c, 1) := dk_146 (dk_at dksJ16_getChar_0 7 rfl rfl)
theorem dJ16_getChar_8 : decode cJ16_getChar 8 = .ok (.ireturn, 1) := dk_172 (dk_at dksJ16_getChar_0 8 rfl rfl)
abbrev cJ16_compareToUTF16 : ByteArray := prog_50_method_16_code
def yJ16_compareToUTF16 : MethodName := ⟨RJ16, "compareToUTF16", "([B[B)I"⟩
def dkwJ16_compareToUTF16_0 : List UInt8 := [42, 184, 0, 54, 61, 43, 184, 0, 58, 62, 42, 43, 28, 29, 184, 0, 59, 172]
abbrev dktJ16_compareToUTF16_0 : List UInt8 := dkwJ16_compareToUTF16_0 ++ []
theorem dksJ16_compareToUTF16_0 : cJ16_compareToUTF16.data.toList.drop 0 = dktJ16_compareToUTF16_0 := by decide +kernel
theorem dJ16_compareToUTF16_0 : decode cJ16_compareToUTF16 0 = .ok (.aload_n 0, 1) := dk_42 (dk_at dksJ16_compareToUTF16_0 0 rfl rfl)
theorem dJ16_compareToUTF16_1 : decode cJ16_compareToUTF16 1 = .ok (.invokestatic 54, 3) := dk_184 0 54 (dk_at dksJ16_compareToUTF16_0 1 rfl rfl)
theorem dJ16_compareToUTF16_4 : decode cJ16_compareToUTF16 4 = .ok (.istore_n 2, 1) := dk_61 (dk_at dksJ16_compareToUTF16_0 4 rfl rfl)
theorem dJ16_compareToUTF16_5 : decode cJ16_compareToUTF16 5 = .ok (.aload_n 1, 1) := dk_43 (dk_at dksJ16_compareToUTF16_0 5 rfl rfl)
theorem dJ16_compareToUTF16_6 : decode cJ16_compareToUTF16 6 = .ok (.invokestatic 58, 3) := dk_184 0 58 (dk_at dksJ16_compareToUTF16_0 6 rfl rfl)
theorem dJ16_compareToUTF16_9 : decode cJ16_compareToUTF16 9 = .ok (.istore_n 3, 1) := dk_62 (dk_at dksJ16_compareToUTF16_0 9 rfl rfl)
theorem dJ16_compareToUTF16_10 : decode cJ16_compareToUTF16 10 = .ok (.aload_n 0, 1) := dk_42 (dk_at dksJ16_compareToUTF16_0 10 rfl rfl)
theorem dJ16_compareToUTF16_11 : decode cJ16_compareToUTF16 11 = .ok (.aload_n 1, 1) := dk_43 (dk_at dksJ16_compareToUTF16_0 11 rfl rfl)
theorem dJ16_compareToUTF16_12 : decode cJ16_compareToUTF16 12 = .ok (.iload_n 2, 1) := dk_28 (dk_at dksJ16_compareToUTF16_0 12 rfl rfl)
theorem dJ16_compareToUTF16_13 : decode cJ16_compareToUTF16 13 = .ok (.iload_n 3, 1) := dk_29 (dk_at dksJ16_compareToUTF16_0 13 rfl rfl)
theorem dJ16_compareToUTF16_14 : decode cJ16_compareToUTF16 14 = .ok (.invokestatic 59, 3) := dk_184 0 59 (dk_at dksJ16_compareToUTF16_0 14 rfl rfl)
theorem dJ16_compareToUTF16_17 : decode cJ16_compareToUTF16 17 = .ok (.ireturn, 1) := dk_172 (dk_at dksJ16_compareToUTF16_0 17 rfl rfl)
abbrev cJ16_length : ByteArray := prog_50_method_5_code
def yJ16_length : MethodName := ⟨RJ16, "length", "([B)I"⟩
theorem dJ16_length_0 : decode cJ16_length 0 = .ok (.aload_n 0, 1) := by decide +kernel
theorem dJ16_length_1 : decode cJ16_length 1 = .ok (.arraylength, 1) := by decide +kernel
theorem dJ16_length_2 : decode cJ16_length 2 = .ok (.ireturn, 1) := by decide +kernel
abbrev cJ16_compareToUTF16Values : ByteArray := prog_50_method_18_code
def yJ16_compareToUTF16Values : MethodName := ⟨RJ16, "compareToUTF16Values", "([B[BII)I"⟩
def dkwJ16_compareToUTF16Values_2 : List UInt8 := [132, 5, 1, 167, 255, 217, 28, 29, 100, 172]
abbrev dktJ16_compareToUTF16Values_2 : List UInt8 := dkwJ16_compareToUTF16Values_2 ++ []
def dkwJ16_compareToUTF16Values_1 : List UInt8 := [54, 6, 43, 21, 5, 184, 0, 65, 54, 7, 21, 6, 21, 7, 159, 0, 9, 21, 6, 21, 7, 100, 172]
abbrev dktJ16_compareToUTF16Values_1 : List UInt8 := dkwJ16_compareToUTF16Values_1 ++ dktJ16_compareToUTF16Values_2
def dkwJ16_compareToUTF16Values_0 : List UInt8 := [28, 29, 184, 0, 38, 54, 4, 3, 54, 5, 21, 5, 21, 4, 162, 0, 38, 42, 21, 5, 184, 0, 50]
abbrev dktJ16_compareToUTF16Values_0 : List UInt8 := dkwJ16_compareToUTF16Values_0 ++ dktJ16_compareToUTF16Values_1
theorem dksJ16_compareToUTF16Values_0 : cJ16_compareToUTF16Values.data.toList.drop 0 = dktJ16_compareToUTF16Values_0 := by decide +kernel
theorem dksJ16_compareToUTF16Values_1 : cJ16_compareToUTF16Values.data.toList.drop 23 = dktJ16_compareToUTF16Values_1 := dk_seg dksJ16_compareToUTF16Values_0 23 rfl rfl
theorem dksJ16_compareToUTF16Values_2 : cJ16_compareToUTF16Values.data.toList.drop 46 = dktJ16_compareToUTF16Values_2 := dk_seg dksJ16_compareToUTF16Values_1 23 rfl rfl
theorem dJ16_compareToUTF16Values_0 : decode cJ16_compareToUTF16Values 0 = .ok (.iload_n 2, 1) := dk_28 (dk_at dksJ16_compareToUTF16Values_0 0 rfl rfl)
theorem dJ16_compareToUTF16Values_1 : decode cJ16_compareToUTF16Values 1 = .ok (.iload_n 3, 1) := dk_29 (dk_at dksJ16_compareToUTF16Values_0 1 rfl rfl)
theorem dJ16_compareToUTF16Values_2 : decode cJ16_compareToUTF16Values 2 = .ok (.invokestatic 38, 3) := dk_184 0 38 (dk_at dksJ16_compareToUTF16Values_0 2 rfl rfl)
theorem dJ16_compareToUTF16Values_5 : decode cJ16_compareToUTF16Values 5 = .ok (.istore 4, 2) := dk_54 4 (dk_at dksJ16_compareToUTF16Values_0 5 rfl rfl)
theorem dJ16_compareToUTF16Values_7 : decode cJ16_compareToUTF16Values 7 = .ok (.iconst 0, 1) := dk_3 (dk_at dksJ16_compareToUTF16Values_0 7 rfl rfl)
theorem dJ16_compareToUTF16Values_8 : decode cJ16_compareToUTF16Values 8 = .ok (.istore 5, 2) := dk_54 5 (dk_at dksJ16_compareToUTF16Values_0 8 rfl rfl)
theorem dJ16_compareToUTF16Values_10 : decode cJ16_compareToUTF16Values 10 = .ok (.iload 5, 2) := dk_21 5 (dk_at dksJ16_compareToUTF16Values_0 10 rfl rfl)
theorem dJ16_compareToUTF16Values_12 : decode cJ16_compareToUTF16Values 12 = .ok (.iload 4, 2) := dk_21 4 (dk_at dksJ16_compareToUTF16Values_0 12 rfl rfl)
theorem dJ16_compareToUTF16Values_14 : decode cJ16_compareToUTF16Values 14 = .ok (.if_icmp .ge 38, 3) := dk_162 0 38 (dk_at dksJ16_compareToUTF16Values_0 14 rfl rfl)
theorem dJ16_compareToUTF16Values_17 : decode cJ16_compareToUTF16Values 17 = .ok (.aload_n 0, 1) := dk_42 (dk_at dksJ16_compareToUTF16Values_0 17 rfl rfl)
theorem dJ16_compareToUTF16Values_18 : decode cJ16_compareToUTF16Values 18 = .ok (.iload 5, 2) := dk_21 5 (dk_at dksJ16_compareToUTF16Values_0 18 rfl rfl)
theorem dJ16_compareToUTF16Values_20 : decode cJ16_compareToUTF16Values 20 = .ok (.invokestatic 50, 3) := dk_184 0 50 (dk_at dksJ16_compareToUTF16Values_0 20 rfl rfl)
theorem dJ16_compareToUTF16Values_23 : decode cJ16_compareToUTF16Values 23 = .ok (.istore 6, 2) := dk_54 6 (dk_at dksJ16_compareToUTF16Values_1 0 rfl rfl)
theorem dJ16_compareToUTF16Values_25 : decode cJ16_compareToUTF16Values 25 = .ok (.aload_n 1, 1) := dk_43 (dk_at dksJ16_compareToUTF16Values_1 2 rfl rfl)
theorem dJ16_compareToUTF16Values_26 : decode cJ16_compareToUTF16Values 26 = .ok (.iload 5, 2) := dk_21 5 (dk_at dksJ16_compareToUTF16Values_1 3 rfl rfl)
theorem dJ16_compareToUTF16Values_28 : decode cJ16_compareToUTF16Values 28 = .ok (.invokestatic 65, 3) := dk_184 0 65 (dk_at dksJ16_compareToUTF16Values_1 5 rfl rfl)
theorem dJ16_compareToUTF16Values_31 : decode cJ16_compareToUTF16Values 31 = .ok (.istore 7, 2) := dk_54 7 (dk_at dksJ16_compareToUTF16Values_1 8 rfl rfl)
theorem dJ16_compareToUTF16Values_33 : decode cJ16_compareToUTF16Values 33 = .ok (.iload 6, 2) := dk_21 6 (dk_at dksJ16_compareToUTF16Values_1 10 rfl rfl)
theorem dJ16_compareToUTF16Values_35 : decode cJ16_compareToUTF16Values 35 = .ok (.iload 7, 2) := dk_21 7 (dk_at dksJ16_compareToUTF16Values_1 12 rfl rfl)
theorem dJ16_compareToUTF16Values_37 : decode cJ16_compareToUTF16Values 37 = .ok (.if_icmp .eq 9, 3) := dk_159 0 9 (dk_at dksJ16_compareToUTF16Values_1 14 rfl rfl)
theorem dJ16_compareToUTF16Values_40 : decode cJ16_compareToUTF16Values 40 = .ok (.iload 6, 2) := dk_21 6 (dk_at dksJ16_compareToUTF16Values_1 17 rfl rfl)
theorem dJ16_compareToUTF16Values_42 : decode cJ16_compareToUTF16Values 42 = .ok (.iload 7, 2) := dk_21 7 (dk_at dksJ16_compareToUTF16Values_1 19 rfl rfl)
theorem dJ16_compareToUTF16Values_44 : decode cJ16_compareToUTF16Values 44 = .ok (.isub, 1) := dk_100 (dk_at dksJ16_compareToUTF16Values_1 21 rfl rfl)
theorem dJ16_compareToUTF16Values_45 : decode cJ16_compareToUTF16Values 45 = .ok (.ireturn, 1) := dk_172 (dk_at dksJ16_compareToUTF16Values_1 22 rfl rfl)
theorem dJ16_compareToUTF16Values_46 : decode cJ16_compareToUTF16Values 46 = .ok (.iinc 5 1, 3) := dk_132 5 1 (dk_at dksJ16_compareToUTF16Values_2 0 rfl rfl)
theorem dJ16_compareToUTF16Values_49 : decode cJ16_compareToUTF16Values 49 = .ok (.goto (-39), 3) := dk_167 255 217 (dk_at dksJ16_compareToUTF16Values_2 3 rfl rfl)
theorem dJ16_compareToUTF16Values_52 : decode cJ16_compareToUTF16Values 52 = .ok (.iload_n 2, 1) := dk_28 (dk_at dksJ16_compareToUTF16Values_2 6 rfl rfl)
theorem dJ16_compareToUTF16Values_53 : decode cJ16_compareToUTF16Values 53 = .ok (.iload_n 3, 1) := dk_29 (dk_at dksJ16_compareToUTF16Values_2 7 rfl rfl)
theorem dJ16_compareToUTF16Values_54 : decode cJ16_compareToUTF16Values 54 = .ok (.isub, 1) := dk_100 (dk_at dksJ16_compareToUTF16Values_2 8 rfl rfl)
theorem dJ16_compareToUTF16Values_55 : decode cJ16_compareToUTF16Values 55 = .ok (.ireturn, 1) := dk_172 (dk_at dksJ16_compareToUTF16Values_2 9 rfl rfl)
abbrev cJ16_compareToUTF16_2 : ByteArray := prog_50_method_17_code
def yJ16_compareToUTF16_2 : MethodName := ⟨RJ16, "compareToUTF16", "([B[BII)I"⟩
def dkwJ16_compareToUTF16_2_0 : List UInt8 := [28, 42, 184, 0, 54, 184, 0, 62, 29, 43, 184, 0, 58, 184, 0, 62, 42, 43, 28, 29, 184, 0, 59, 172]
abbrev dktJ16_compareToUTF16_2_0 : List UInt8 := dkwJ16_compareToUTF16_2_0 ++ []
theorem dksJ16_compareToUTF16_2_0 : cJ16_compareToUTF16_2.data.toList.drop 0 = dktJ16_compareToUTF16_2_0 := by decide +kernel
theorem dJ16_compareToUTF16_2_0 : decode cJ16_compareToUTF16_2 0 = .ok (.iload_n 2, 1) := dk_28 (dk_at dksJ16_compareToUTF16_2_0 0 rfl rfl)
theorem dJ16_compareToUTF16_2_1 : decode cJ16_compareToUTF16_2 1 = .ok (.aload_n 0, 1) := dk_42 (dk_at dksJ16_compareToUTF16_2_0 1 rfl rfl)
theorem dJ16_compareToUTF16_2_2 : decode cJ16_compareToUTF16_2 2 = .ok (.invokestatic 54, 3) := dk_184 0 54 (dk_at dksJ16_compareToUTF16_2_0 2 rfl rfl)
theorem dJ16_compareToUTF16_2_5 : decode cJ16_compareToUTF16_2 5 = .ok (.invokestatic 62, 3) := dk_184 0 62 (dk_at dksJ16_compareToUTF16_2_0 5 rfl rfl)
theorem dJ16_compareToUTF16_2_8 : decode cJ16_compareToUTF16_2 8 = .ok (.iload_n 3, 1) := dk_29 (dk_at dksJ16_compareToUTF16_2_0 8 rfl rfl)
theorem dJ16_compareToUTF16_2_9 : decode cJ16_compareToUTF16_2 9 = .ok (.aload_n 1, 1) := dk_43 (dk_at dksJ16_compareToUTF16_2_0 9 rfl rfl)
theorem dJ16_compareToUTF16_2_10 : decode cJ16_compareToUTF16_2 10 = .ok (.invokestatic 58, 3) := dk_184 0 58 (dk_at dksJ16_compareToUTF16_2_0 10 rfl rfl)
theorem dJ16_compareToUTF16_2_13 : decode cJ16_compareToUTF16_2 13 = .ok (.invokestatic 62, 3) := dk_184 0 62 (dk_at dksJ16_compareToUTF16_2_0 13 rfl rfl)
theorem dJ16_compareToUTF16_2_16 : decode cJ16_compareToUTF16_2 16 = .ok (.aload_n 0, 1) := dk_42 (dk_at dksJ16_compareToUTF16_2_0 16 rfl rfl)
theorem dJ16_compareToUTF16_2_17 : decode cJ16_compareToUTF16_2 17 = .ok (.aload_n 1, 1) := dk_43 (dk_at dksJ16_compareToUTF16_2_0 17 rfl rfl)
theorem dJ16_compareToUTF16_2_18 : decode cJ16_compareToUTF16_2 18 = .ok (.iload_n 2, 1) := dk_28 (dk_at dksJ16_compareToUTF16_2_0 18 rfl rfl)
theorem dJ16_compareToUTF16_2_19 : decode cJ16_compareToUTF16_2 19 = .ok (.iload_n 3, 1) := dk_29 (dk_at dksJ16_compareToUTF16_2_0 19 rfl rfl)
theorem dJ16_compareToUTF16_2_20 : decode cJ16_compareToUTF16_2 20 = .ok (.invokestatic 59, 3) := dk_184 0 59 (dk_at dksJ16_compareToUTF16_2_0 20 rfl rfl)
theorem dJ16_compareToUTF16_2_23 : decode cJ16_compareToUTF16_2 23 = .ok (.ireturn, 1) := dk_172 (dk_at dksJ16_compareToUTF16_2_0 23 rfl rfl)
theorem q93 : (Jvm.Cond.initialized "java/lang/StringLatin1") ∈ lw_all := lw_g (lw_at lw_m1 21 rfl) rfl
theorem q643 : (Jvm.Cond.static ({ cls := "java/lang/StringLatin1", name := "canEncode", desc := "(C)Z" } : Jvm.MethodName)) ∈ lw_all := lw_g (lw_at lw_m3 91 rfl) rfl
theorem q644 : (Jvm.Cond.code ({ cls := "java/lang/StringLatin1", name := "canEncode", desc := "(C)Z" } : Jvm.MethodName) prog_50_method_3_code (1 : Nat) (Option.some Jvm.ClassFile.FieldType.boolean)) ∈ lw_all := lw_g (lw_at lw_m3 92 rfl) rfl
theorem q650 : (Jvm.Cond.static ({ cls := "java/lang/StringLatin1", name := "inflate", desc := "([BI[BII)V" } : Jvm.MethodName)) ∈ lw_all := lw_g (lw_at lw_m3 98 rfl) rfl
theorem q651 : (Jvm.Cond.code ({ cls := "java/lang/StringLatin1", name := "inflate", desc := "([BI[BII)V" } : Jvm.MethodName) prog_50_method_50_code (5 : Nat) (Option.none : Option Jvm.ClassFile.FieldType)) ∈ lw_all := lw_g (lw_at lw_m3 99 rfl) rfl
theorem q652 : (Jvm.Cond.methodLink "java/lang/StringLatin1" (240 : Nat) ({ cls := "java/lang/StringUTF16", name := "inflate", desc := "([BI[BII)V" } : Jvm.MethodName)) ∈ lw_all := lw_g (lw_at lw_m3 100 rfl) rfl
theorem q904 : (Jvm.Cond.static ({ cls := "java/lang/StringLatin1", name := "fillNull", desc := "([BII)V" } : Jvm.MethodName)) ∈ lw_all := lw_g (lw_at lw_m4 112 rfl) rfl
theorem q905 : (Jvm.Cond.code ({ cls := "java/lang/StringLatin1", name := "fillNull", desc := "([BII)V" } : Jvm.MethodName) prog_50_method_48_code (3 : Nat) (Option.none : Option Jvm.ClassFile.FieldType)) ∈ lw_all := lw_g (lw_at lw_m4 113 rfl) rfl
theorem q906 : (Jvm.Cond.methodLink "java/lang/StringLatin1" (236 : Nat) ({ cls := "java/util/Arrays", name := "fill", desc := "([BIIB)V" } : Jvm.MethodName)) ∈ lw_all := lw_g (lw_at lw_m4 114 rfl) rfl
theorem q990 : (Jvm.Cond.static ({ cls := "java/lang/StringLatin1", name := "charAt", desc := "([BI)C" } : Jvm.MethodName)) ∈ lw_all := lw_g (lw_at lw_m4 198 rfl) rfl
theorem q991 : (Jvm.Cond.code ({ cls := "java/lang/StringLatin1", name := "charAt", desc := "([BI)C" } : Jvm.MethodName) prog_50_method_2_code (2 : Nat) (Option.some Jvm.ClassFile.FieldType.char)) ∈ lw_all := lw_g (lw_at lw_m4 199 rfl) rfl
theorem q992 : (Jvm.Cond.methodLink "java/lang/StringLatin1" (9 : Nat) ({ cls := "java/lang/String", name := "checkIndex", desc := "(II)V" } : Jvm.MethodName)) ∈ lw_all := lw_g (lw_at lw_m4 200 rfl) rfl
theorem q1030 : (Jvm.Cond.static ({ cls := "java/lang/StringLatin1", name := "newString", desc := "([BII)Ljava/lang/String;" } : Jvm.MethodName)) ∈ lw_all := lw_g (lw_at lw_m4 238 rfl) rfl
theorem q1031 : (Jvm.Cond.code ({ cls := "java/lang/StringLatin1", name := "newString", desc := "([BII)Ljava/lang/String;" } : Jvm.MethodName) prog_50_method_47_code (3 : Nat) (Option.some (Jvm.ClassFile.FieldType.object "java/lang/String"))) ∈ lw_all := lw_g (lw_at lw_m4 239 rfl) rfl
theorem q1032 : (Jvm.Cond.stringRef "java/lang/StringLatin1" (151 : Nat) "") ∈ lw_tbl := lw_at lw_m5 0 rfl
theorem q1033 : (Jvm.Cond.classLink "java/lang/StringLatin1" (1 : Nat) "java/lang/String") ∈ lw_all := lw_g (lw_at lw_m5 1 rfl) rfl
theorem q1034 : (Jvm.Cond.methodLink "java/lang/StringLatin1" (232 : Nat) ({ cls := "java/util/Arrays", name := "copyOfRange", desc := "([BII)[B" } : Jvm.MethodName)) ∈ lw_all := lw_g (lw_at lw_m5 2 rfl) rfl
theorem q1035 : (Jvm.Cond.methodLink "java/lang/StringLatin1" (112 : Nat) ({ cls := "java/lang/String", name := "<init>", desc := "([BB)V" } : Jvm.MethodName)) ∈ lw_all := lw_g (lw_at lw_m5 3 rfl) rfl
theorem q1103 : (Jvm.Cond.static ({ cls := "java/lang/StringLatin1", name := "equals", desc := "([B[B)Z" } : Jvm.MethodName)) ∈ lw_all := lw_g (lw_at lw_m5 71 rfl) rfl
theorem q1104 : (Jvm.Cond.code ({ cls := "java/lang/StringLatin1", name := "equals", desc := "([B[B)Z" } : Jvm.MethodName) prog_50_method_13_code (3 : Nat) (Option.some Jvm.ClassFile.FieldType.boolean)) ∈ lw_all := lw_g (lw_at lw_m5 72 rfl) rfl
theorem q1859 : (Jvm.Cond.static ({ cls := "java/lang/StringLatin1", name := "hashCode", desc := "([B)I" } : Jvm.MethodName)) ∈ lw_all := lw_g (lw_at lw_m8 107 rfl) rfl
theorem q1860 : (Jvm.Cond.code ({ cls := "java/lang/StringLatin1", name := "hashCode", desc := "([B)I" } : Jvm.MethodName) prog_50_method_21_code (1 : Nat) (Option.some Jvm.ClassFile.FieldType.int)) ∈ lw_all := lw_g (lw_at lw_m8 108 rfl) rfl
theorem q1861 : (Jvm.Cond.methodLink "java/lang/StringLatin1" (84 : Nat) ({ cls := "jdk/internal/util/ArraysSupport", name := "vectorizedHashCode", desc := "(Ljava/lang/Object;IIII)I" } : Jvm.MethodName)) ∈ lw_all := lw_g (lw_at lw_m8 109 rfl) rfl
theorem q2051 : (Jvm.Cond.static ({ cls := "java/lang/StringLatin1", name := "compareTo", desc := "([B[B)I" } : Jvm.MethodName)) ∈ lw_all := lw_g (lw_at lw_m9 59 rfl) rfl
theorem q2052 : (Jvm.Cond.code ({ cls := "java/lang/StringLatin1", name := "compareTo", desc := "([B[B)I" } : Jvm.MethodName) prog_50_method_14_code (4 : Nat) (Option.some Jvm.ClassFile.FieldType.int)) ∈ lw_all := lw_g (lw_at lw_m9 60 rfl) rfl
theorem q2053 : (Jvm.Cond.methodLink "java/lang/StringLatin1" (34 : Nat) ({ cls := "java/lang/StringLatin1", name := "compareTo", desc := "([B[BII)I" } : Jvm.MethodName)) ∈ lw_all := lw_g (lw_at lw_m9 61 rfl) rfl
theorem q2054 : (Jvm.Cond.static ({ cls := "java/lang/StringLatin1", name := "compareTo", desc := "([B[BII)I" } : Jvm.MethodName)) ∈ lw_all := lw_g (lw_at lw_m9 62 rfl) rfl
theorem q2055 : (Jvm.Cond.code ({ cls := "java/lang/StringLatin1", name := "compareTo", desc := "([B[BII)I" } : Jvm.MethodName) prog_50_method_15_code (6 : Nat) (Option.some Jvm.ClassFile.FieldType.int)) ∈ lw_all := lw_g (lw_at lw_m9 63 rfl) rfl
theorem q2056 : (Jvm.Cond.methodLink "java/lang/StringLatin1" (38 : Nat) ({ cls := "java/lang/Math", name := "min", desc := "(II)I" } : Jvm.MethodName)) ∈ lw_all := lw_g (lw_at lw_m9 64 rfl) rfl
theorem q2057 : (Jvm.Cond.methodLink "java/lang/StringLatin1" (44 : Nat) ({ cls := "jdk/internal/util/ArraysSupport", name := "mismatch", desc := "([B[BI)I" } : Jvm.MethodName)) ∈ lw_all := lw_g (lw_at lw_m9 65 rfl) rfl
theorem q2161 : (Jvm.Cond.methodLink "java/lang/StringLatin1" (50 : Nat) ({ cls := "java/lang/StringLatin1", name := "getChar", desc := "([BI)C" } : Jvm.MethodName)) ∈ lw_all := lw_g (lw_at lw_m9 169 rfl) rfl
theorem q2162 : (Jvm.Cond.static ({ cls := "java/lang/StringLatin1", name := "getChar", desc := "([BI)C" } : Jvm.MethodName)) ∈ lw_all := lw_g (lw_at lw_m9 170 rfl) rfl
theorem q2163 : (Jvm.Cond.code ({ cls := "java/lang/StringLatin1", name := "getChar", desc := "([BI)C" } : Jvm.MethodName) prog_50_method_44_code (2 : Nat) (Option.some Jvm.ClassFile.FieldType.char)) ∈ lw_all := lw_g (lw_at lw_m9 171 rfl) rfl
theorem q2172 : (Jvm.Cond.static ({ cls := "java/lang/StringLatin1", name := "compareToUTF16", desc := "([B[B)I" } : Jvm.MethodName)) ∈ lw_all := lw_g (lw_at lw_m9 180 rfl) rfl
theorem q2173 : (Jvm.Cond.code ({ cls := "java/lang/StringLatin1", name := "compareToUTF16", desc := "([B[B)I" } : Jvm.MethodName) prog_50_method_16_code (4 : Nat) (Option.some Jvm.ClassFile.FieldType.int)) ∈ lw_all := lw_g (lw_at lw_m9 181 rfl) rfl
theorem q2174 : (Jvm.Cond.methodLink "java/lang/StringLatin1" (54 : Nat) ({ cls := "java/lang/StringLatin1", name := "length", desc := "([B)I" } : Jvm.MethodName)) ∈ lw_all := lw_g (lw_at lw_m9 182 rfl) rfl
theorem q2175 : (Jvm.Cond.static ({ cls := "java/lang/StringLatin1", name := "length", desc := "([B)I" } : Jvm.MethodName)) ∈ lw_all := lw_g (lw_at lw_m9 183 rfl) rfl
theorem q2176 : (Jvm.Cond.code ({ cls := "java/lang/StringLatin1", name := "length", desc := "([B)I" } : Jvm.MethodName) prog_50_method_5_code (1 : Nat) (Option.some Jvm.ClassFile.FieldType.int)) ∈ lw_all := lw_g (lw_at lw_m9 184 rfl) rfl
theorem q2177 : (Jvm.Cond.methodLink "java/lang/StringLatin1" (58 : Nat) ({ cls := "java/lang/StringUTF16", name := "length", desc := "([B)I" } : Jvm.MethodName)) ∈ lw_all := lw_g (lw_at lw_m9 185 rfl) rfl
theorem q2178 : (Jvm.Cond.methodLink "java/lang/StringLatin1" (59 : Nat) ({ cls := "java/lang/StringLatin1", name := "compareToUTF16Values", desc := "([B[BII)I" } : Jvm.MethodName)) ∈ lw_all := lw_g (lw_at lw_m9 186 rfl) rfl
theorem q2179 : (Jvm.Cond.static ({ cls := "java/lang/StringLatin1", name := "compareToUTF16Values", desc := "([B[BII)I" } : Jvm.MethodName)) ∈ lw_all := lw_g (lw_at lw_m9 187 rfl) rfl
theorem q2180 : (Jvm.Cond.code ({ cls := "java/lang/StringLatin1", name := "compareToUTF16Values", desc := "([B[BII)I" } : Jvm.MethodName) prog_50_method_18_code (8 : Nat) (Option.some Jvm.ClassFile.FieldType.int)) ∈ lw_all := lw_g (lw_at lw_m9 188 rfl) rfl
theorem q2181 : (Jvm.Cond.methodLink "java/lang/StringLatin1" (65 : Nat) ({ cls := "java/lang/StringUTF16", name := "getChar", desc := "([BI)C" } : Jvm.MethodName)) ∈ lw_all := lw_g (lw_at lw_m9 189 rfl) rfl
theorem q2211 : (Jvm.Cond.static ({ cls := "java/lang/StringLatin1", name := "compareToUTF16", desc := "([B[BII)I" } : Jvm.MethodName)) ∈ lw_all := lw_g (lw_at lw_m9 219 rfl) rfl
theorem q2212 : (Jvm.Cond.code ({ cls := "java/lang/StringLatin1", name := "compareToUTF16", desc := "([B[BII)I" } : Jvm.MethodName) prog_50_method_17_code (4 : Nat) (Option.some Jvm.ClassFile.FieldType.int)) ∈ lw_all := lw_g (lw_at lw_m9 220 rfl) rfl
theorem q2213 : (Jvm.Cond.methodLink "java/lang/StringLatin1" (62 : Nat) ({ cls := "java/lang/String", name := "checkOffset", desc := "(II)V" } : Jvm.MethodName)) ∈ lw_all := lw_g (lw_at lw_m9 221 rfl) rfl
/-! jdk/internal/util/Preconditions -/
set_option maxRecDepth 100000
def RJ17 : String := "jdk/internal/util/Preconditions"
abbrev cJ17_checkFromIndexSize : ByteArray := prog_87_method_13_code
def yJ17_checkFromIndexSize : MethodName := ⟨RJ17, "checkFromIndexSize", "(IIILjava/util/function/BiFunction;)I"⟩
def dkwJ17_checkFromIndexSize_1 : List UInt8 := [172]
abbrev dktJ17_checkFromIndexSize_1 : List UInt8 := dkwJ17_checkFromIndexSize_1 ++ []
def dkwJ17_checkFromIndexSize_0 : List UInt8 := [28, 26, 128, 27, 128, 155, 0, 10, 27, 28, 26, 100, 164, 0, 11, 45, 26, 27, 28, 184, 0, 103, 191, 26]
abbrev dktJ17_checkFromIndexSize_0 : List UInt8 := dkwJ17_checkFromIndexSize_0 ++ dktJ17_checkFromIndexSize_1
theorem dksJ17_checkFromIndexSize_0 : cJ17_checkFromIndexSize.data.toList.drop 0 = dktJ17_checkFromIndexSize_0 := by decide +kernel
theorem dksJ17_checkFromIndexSize_1 : cJ17_checkFromIndexSize.data.toList.drop 24 = dktJ17_checkFromIndexSize_1 := dk_seg dksJ17_checkFromIndexSize_0 24 rfl rfl
theorem dJ17_checkFromIndexSize_0 : decode cJ17_checkFromIndexSize 0 = .ok (.iload_n 2, 1) := dk_28 (dk_at dksJ17_checkFromIndexSize_0 0 rfl rfl)
theorem dJ17_checkFromIndexSize_1 : decode cJ17_checkFromIndexSize 1 = .ok (.iload_n 0, 1) := dk_26 (dk_at dksJ17_checkFromIndexSize_0 1 rfl rfl)
theorem dJ17_checkFromIndexSize_2 : decode cJ17_checkFromIndexSize 2 = .ok (.ior, 1) := dk_128 (dk_at dksJ17_checkFromIndexSize_0 2 rfl rfl)
theorem dJ17_checkFromIndexSize_3 : decode cJ17_checkFromIndexSize 3 = .ok (.iload_n 1, 1) := dk_27 (dk_at dksJ17_checkFromIndexSize_0 3 rfl rfl)
theorem dJ17_checkFromIndexSize_4 : decode cJ17_checkFromIndexSize 4 = .ok (.ior, 1) := dk_128 (dk_at dksJ17_checkFromIndexSize_0 4 rfl rfl)
theorem dJ17_checkFromIndexSize_5 : decode cJ17_checkFromIndexSize 5 = .ok (.ifCond .lt 10, 3) := dk_155 0 10 (dk_at dksJ17_checkFromIndexSize_0 5 rfl rfl)
theorem dJ17_checkFromIndexSize_8 : decode cJ17_checkFromIndexSize 8 = .ok (.iload_n 1, 1) := dk_27 (dk_at dksJ17_checkFromIndexSize_0 8 rfl rfl)
theorem dJ17_checkFromIndexSize_9 : decode cJ17_checkFromIndexSize 9 = .ok (.iload_n 2, 1) := dk_28 (dk_at dksJ17_checkFromIndexSize_0 9 rfl rfl)
theorem dJ17_checkFromIndexSize_10 : decode cJ17_checkFromIndexSize 10 = .ok (.iload_n 0, 1) := dk_26 (dk_at dksJ17_checkFromIndexSize_0 10 rfl rfl)
theorem dJ17_checkFromIndexSize_11 : decode cJ17_checkFromIndexSize 11 = .ok (.isub, 1) := dk_100 (dk_at dksJ17_checkFromIndexSize_0 11 rfl rfl)
theorem dJ17_checkFromIndexSize_12 : decode cJ17_checkFromIndexSize 12 = .ok (.if_icmp .le 11, 3) := dk_164 0 11 (dk_at dksJ17_checkFromIndexSize_0 12 rfl rfl)
theorem dJ17_checkFromIndexSize_15 : decode cJ17_checkFromIndexSize 15 = .ok (.aload_n 3, 1) := dk_45 (dk_at dksJ17_checkFromIndexSize_0 15 rfl rfl)
theorem dJ17_checkFromIndexSize_16 : decode cJ17_checkFromIndexSize 16 = .ok (.iload_n 0, 1) := dk_26 (dk_at dksJ17_checkFromIndexSize_0 16 rfl rfl)
theorem dJ17_checkFromIndexSize_17 : decode cJ17_checkFromIndexSize 17 = .ok (.iload_n 1, 1) := dk_27 (dk_at dksJ17_checkFromIndexSize_0 17 rfl rfl)
theorem dJ17_checkFromIndexSize_18 : decode cJ17_checkFromIndexSize 18 = .ok (.iload_n 2, 1) := dk_28 (dk_at dksJ17_checkFromIndexSize_0 18 rfl rfl)
theorem dJ17_checkFromIndexSize_19 : decode cJ17_checkFromIndexSize 19 = .ok (.invokestatic 103, 3) := dk_184 0 103 (dk_at dksJ17_checkFromIndexSize_0 19 rfl rfl)
theorem dJ17_checkFromIndexSize_22 : decode cJ17_checkFromIndexSize 22 = .ok (.athrow, 1) := dk_191 (dk_at dksJ17_checkFromIndexSize_0 22 rfl rfl)
theorem dJ17_checkFromIndexSize_23 : decode cJ17_checkFromIndexSize 23 = .ok (.iload_n 0, 1) := dk_26 (dk_at dksJ17_checkFromIndexSize_0 23 rfl rfl)
theorem dJ17_checkFromIndexSize_24 : decode cJ17_checkFromIndexSize 24 = .ok (.ireturn, 1) := dk_172 (dk_at dksJ17_checkFromIndexSize_1 0 rfl rfl)
abbrev cJ17_checkIndex : ByteArray := prog_87_method_11_code
def yJ17_checkIndex : MethodName := ⟨RJ17, "checkIndex", "(IILjava/util/function/BiFunction;)I"⟩
def dkwJ17_checkIndex_0 : List UInt8 := [26, 155, 0, 8, 26, 27, 161, 0, 10, 44, 26, 27, 184, 0, 95, 191, 26, 172]
abbrev dktJ17_checkIndex_0 : List UInt8 := dkwJ17_checkIndex_0 ++ []
theorem dksJ17_checkIndex_0 : cJ17_checkIndex.data.toList.drop 0 = dktJ17_checkIndex_0 := by decide +kernel
theorem dJ17_checkIndex_0 : decode cJ17_checkIndex 0 = .ok (.iload_n 0, 1) := dk_26 (dk_at dksJ17_checkIndex_0 0 rfl rfl)
theorem dJ17_checkIndex_1 : decode cJ17_checkIndex 1 = .ok (.ifCond .lt 8, 3) := dk_155 0 8 (dk_at dksJ17_checkIndex_0 1 rfl rfl)
theorem dJ17_checkIndex_4 : decode cJ17_checkIndex 4 = .ok (.iload_n 0, 1) := dk_26 (dk_at dksJ17_checkIndex_0 4 rfl rfl)
theorem dJ17_checkIndex_5 : decode cJ17_checkIndex 5 = .ok (.iload_n 1, 1) := dk_27 (dk_at dksJ17_checkIndex_0 5 rfl rfl)
theorem dJ17_checkIndex_6 : decode cJ17_checkIndex 6 = .ok (.if_icmp .lt 10, 3) := dk_161 0 10 (dk_at dksJ17_checkIndex_0 6 rfl rfl)
theorem dJ17_checkIndex_9 : decode cJ17_checkIndex 9 = .ok (.aload_n 2, 1) := dk_44 (dk_at dksJ17_checkIndex_0 9 rfl rfl)
theorem dJ17_checkIndex_10 : decode cJ17_checkIndex 10 = .ok (.iload_n 0, 1) := dk_26 (dk_at dksJ17_checkIndex_0 10 rfl rfl)
theorem dJ17_checkIndex_11 : decode cJ17_checkIndex 11 = .ok (.iload_n 1, 1) := dk_27 (dk_at dksJ17_checkIndex_0 11 rfl rfl)
theorem dJ17_checkIndex_12 : decode cJ17_checkIndex 12 = .ok (.invokestatic 95, 3) := dk_184 0 95 (dk_at dksJ17_checkIndex_0 12 rfl rfl)
theorem dJ17_checkIndex_15 : decode cJ17_checkIndex 15 = .ok (.athrow, 1) := dk_191 (dk_at dksJ17_checkIndex_0 15 rfl rfl)
theorem dJ17_checkIndex_16 : decode cJ17_checkIndex 16 = .ok (.iload_n 0, 1) := dk_26 (dk_at dksJ17_checkIndex_0 16 rfl rfl)
theorem dJ17_checkIndex_17 : decode cJ17_checkIndex 17 = .ok (.ireturn, 1) := dk_172 (dk_at dksJ17_checkIndex_0 17 rfl rfl)
abbrev cJ17_checkFromToIndex : ByteArray := prog_87_method_12_code
def yJ17_checkFromToIndex : MethodName := ⟨RJ17, "checkFromToIndex", "(IIILjava/util/function/BiFunction;)I"⟩
def dkwJ17_checkFromToIndex_0 : List UInt8 := [26, 155, 0, 13, 26, 27, 163, 0, 8, 27, 28, 164, 0, 11, 45, 26, 27, 28, 184, 0, 99, 191, 26, 172]
abbrev dktJ17_checkFromToIndex_0 : List UInt8 := dkwJ17_checkFromToIndex_0 ++ []
theorem dksJ17_checkFromToIndex_0 : cJ17_checkFromToIndex.data.toList.drop 0 = dktJ17_checkFromToIndex_0 := by decide +kernel
theorem dJ17_checkFromToIndex_0 : decode cJ17_checkFromToIndex 0 = .ok (.iload_n 0, 1) := dk_26 (dk_at dksJ17_checkFromToIndex_0 0 rfl rfl)
theorem dJ17_checkFromToIndex_1 : decode cJ17_checkFromToIndex 1 = .ok (.ifCond .lt 13, 3) := dk_155 0 13 (dk_at dksJ17_checkFromToIndex_0 1 rfl rfl)
theorem dJ17_checkFromToIndex_4 : decode cJ17_checkFromToIndex 4 = .ok (.iload_n 0, 1) := dk_26 (dk_at dksJ17_checkFromToIndex_0 4 rfl rfl)
theorem dJ17_checkFromToIndex_5 : decode cJ17_checkFromToIndex 5 = .ok (.iload_n 1, 1) := dk_27 (dk_at dksJ17_checkFromToIndex_0 5 rfl rfl)
theorem dJ17_checkFromToIndex_6 : decode cJ17_checkFromToIndex 6 = .ok (.if_icmp .gt 8, 3) := dk_163 0 8 (dk_at dksJ17_checkFromToIndex_0 6 rfl rfl)
theorem dJ17_checkFromToIndex_9 : decode cJ17_checkFromToIndex 9 = .ok (.iload_n 1, 1) := dk_27 (dk_at dksJ17_checkFromToIndex_0 9 rfl rfl)
theorem dJ17_checkFromToIndex_10 : decode cJ17_checkFromToIndex 10 = .ok (.iload_n 2, 1) := dk_28 (dk_at dksJ17_checkFromToIndex_0 10 rfl rfl)
theorem dJ17_checkFromToIndex_11 : decode cJ17_checkFromToIndex 11 = .ok (.if_icmp .le 11, 3) := dk_164 0 11 (dk_at dksJ17_checkFromToIndex_0 11 rfl rfl)
theorem dJ17_checkFromToIndex_14 : decode cJ17_checkFromToIndex 14 = .ok (.aload_n 3, 1) := dk_45 (dk_at dksJ17_checkFromToIndex_0 14 rfl rfl)
theorem dJ17_checkFromToIndex_15 : decode cJ17_checkFromToIndex 15 = .ok (.iload_n 0, 1) := dk_26 (dk_at dksJ17_checkFromToIndex_0 15 rfl rfl)
theorem dJ17_checkFromToIndex_16 : decode cJ17_checkFromToIndex 16 = .ok (.iload_n 1, 1) := dk_27 (dk_at dksJ17_checkFromToIndex_0 16 rfl rfl)
theorem dJ17_checkFromToIndex_17 : decode cJ17_checkFromToIndex 17 = .ok (.iload_n 2, 1) := dk_28 (dk_at dksJ17_checkFromToIndex_0 17 rfl rfl)
theorem dJ17_checkFromToIndex_18 : decode cJ17_checkFromToIndex 18 = .ok (.invokestatic 99, 3) := dk_184 0 99 (dk_at dksJ17_checkFromToIndex_0 18 rfl rfl)
theorem dJ17_checkFromToIndex_21 : decode cJ17_checkFromToIndex 21 = .ok (.athrow, 1) := dk_191 (dk_at dksJ17_checkFromToIndex_0 21 rfl rfl)
theorem dJ17_checkFromToIndex_22 : decode cJ17_checkFromToIndex 22 = .ok (.iload_n 0, 1) := dk_26 (dk_at dksJ17_checkFromToIndex_0 22 rfl rfl)
theorem dJ17_checkFromToIndex_23 : decode cJ17_checkFromToIndex 23 = .ok (.ireturn, 1) := dk_172 (dk_at dksJ17_checkFromToIndex_0 23 rfl rfl)
theorem q94 : (Jvm.Cond.initialized "jdk/internal/util/Preconditions") ∈ lw_all := lw_g (lw_at lw_m1 22 rfl) rfl
theorem q665 : (Jvm.Cond.laysStatic "jdk/internal/util/Preconditions" "SIOOBE_FORMATTER" "Ljava/util/function/BiFunction;") ∈ lw_tbl := lw_at lw_m3 113 rfl
theorem q667 : (Jvm.Cond.static ({ cls := "jdk/internal/util/Preconditions", name := "checkFromIndexSize", desc := "(IIILjava/util/function/BiFunction;)I" } : Jvm.MethodName)) ∈ lw_all := lw_g (lw_at lw_m3 115 rfl) rfl
theorem q668 : (Jvm.Cond.code ({ cls := "jdk/internal/util/Preconditions", name := "checkFromIndexSize", desc := "(IIILjava/util/function/BiFunction;)I" } : Jvm.MethodName) prog_87_method_13_code (4 : Nat) (Option.some Jvm.ClassFile.FieldType.int)) ∈ lw_all := lw_g (lw_at lw_m3 116 rfl) rfl
theorem q688 : (Jvm.Cond.static ({ cls := "jdk/internal/util/Preconditions", name := "checkIndex", desc := "(IILjava/util/function/BiFunction;)I" } : Jvm.MethodName)) ∈ lw_all := lw_g (lw_at lw_m3 136 rfl) rfl
theorem q689 : (Jvm.Cond.code ({ cls := "jdk/internal/util/Preconditions", name := "checkIndex", desc := "(IILjava/util/function/BiFunction;)I" } : Jvm.MethodName) prog_87_method_11_code (3 : Nat) (Option.some Jvm.ClassFile.FieldType.int)) ∈ lw_all := lw_g (lw_at lw_m3 137 rfl) rfl
theorem q778 : (Jvm.Cond.static ({ cls := "jdk/internal/util/Preconditions", name := "checkFromToIndex", desc := "(IIILjava/util/function/BiFunction;)I" } : Jvm.MethodName)) ∈ lw_all := lw_g (lw_at lw_m3 226 rfl) rfl
theorem q779 : (Jvm.Cond.code ({ cls := "jdk/internal/util/Preconditions", name := "checkFromToIndex", desc := "(IIILjava/util/function/BiFunction;)I" } : Jvm.MethodName) prog_87_method_12_code (4 : Nat) (Option.some Jvm.ClassFile.FieldType.int)) ∈ lw_all := lw_g (lw_at lw_m3 227 rfl) rfl
/-! java/util/NoSuchElementException -/
set_option maxRecDepth 100000
def RJ18 : String := "java/util/NoSuchElementException"
def TJ18 : u_T := fun k => match k with
  | 0 => ("java/lang/Throwable", "cause", "Ljava/lang/Throwable;", false)
  | 1 => ("java/lang/Throwable", "stackTrace", "[Ljava/lang/StackTraceElement;", false)
  | 2 => ("java/lang/Throwable", "suppressedExceptions", "Ljava/util/List;", false)
  | 3 => ("java/lang/Throwable", "detailMessage", "Ljava/lang/String;", false)
  | 4 => ("java/lang/Throwable", "backtrace", "Ljava/lang/Object;", false)
  | _ => ("java/lang/Throwable", "depth", "I", false)
def tyJ18 : Nat → FieldType := fun k => match k with
  | 0 => .object "java/lang/Throwable"
  | 1 => .array (.object "java/lang/StackTraceElement")
  | 2 => .object "java/util/List"
  | 3 => .object "java/lang/String"
  | 4 => .object "java/lang/Object"
  | _ => .int
abbrev wsJ180 : List Cond := u_ws RJ18 TJ18 6
theorem nmJ18 : ∀ a, a < 6 → ∀ b, b < 6 → a ≠ b → (TJ18 a).2.1 ≠ (TJ18 b).2.1 := by decide +kernel
theorem tyJ18_ok : ∀ k, k < 6 → parseFieldDescriptor (TJ18 k).2.2.1 = some (tyJ18 k) := by decide +kernel
abbrev cJ18_init : ByteArray := prog_77_method_1_code
def yJ18_init : MethodName := ⟨RJ18, "<init>", "()V"⟩
theorem dJ18_init_0 : decode cJ18_init 0 = .ok (.aload_n 0, 1) := by decide +kernel
theorem dJ18_init_1 : decode cJ18_init 1 = .ok (.invokespecial 1, 3) := by decide +kernel
theorem dJ18_init_4 : decode cJ18_init 4 = .ok (.return_, 1) := by decide +kernel
theorem q95 : (Jvm.Cond.initialized "java/util/NoSuchElementException") ∈ lw_all := lw_g (lw_at lw_m1 23 rfl) rfl
theorem q350 : (Jvm.Cond.instantiable "java/util/NoSuchElementException" (6 : Nat)) ∈ lw_all := lw_g (lw_at lw_m2 38 rfl) rfl
theorem q351 : (Jvm.Cond.castable "java/util/NoSuchElementException" "java/util/NoSuchElementException") ∈ lw_tbl := lw_at lw_m2 39 rfl
theorem q358 : (Jvm.Cond.selects "java/util/NoSuchElementException" ({ cls := "java/lang/Throwable", name := "fillInStackTrace", desc := "(I)Ljava/lang/Throwable;" } : Jvm.MethodName) ({ cls := "java/lang/Throwable", name := "fillInStackTrace", desc := "(I)Ljava/lang/Throwable;" } : Jvm.MethodName)) ∈ lw_all := lw_g (lw_at lw_m2 46 rfl) rfl
theorem q359 : (Jvm.Cond.selects "java/util/NoSuchElementException" ({ cls := "java/lang/Throwable", name := "fillInStackTrace", desc := "()Ljava/lang/Throwable;" } : Jvm.MethodName) ({ cls := "java/lang/Throwable", name := "fillInStackTrace", desc := "()Ljava/lang/Throwable;" } : Jvm.MethodName)) ∈ lw_all := lw_g (lw_at lw_m2 47 rfl) rfl
theorem q360 : (Jvm.Cond.lays "java/util/NoSuchElementException" "java/lang/Throwable" "cause" "Ljava/lang/Throwable;") ∈ lw_all := lw_g (lw_at lw_m2 48 rfl) rfl
theorem q362 : (Jvm.Cond.lays "java/util/NoSuchElementException" "java/lang/Throwable" "stackTrace" "[Ljava/lang/StackTraceElement;") ∈ lw_all := lw_g (lw_at lw_m2 50 rfl) rfl
theorem q364 : (Jvm.Cond.lays "java/util/NoSuchElementException" "java/lang/Throwable" "suppressedExceptions" "Ljava/util/List;") ∈ lw_all := lw_g (lw_at lw_m2 52 rfl) rfl
theorem q366 : (Jvm.Cond.lays "java/util/NoSuchElementException" "java/lang/Throwable" "detailMessage" "Ljava/lang/String;") ∈ lw_all := lw_g (lw_at lw_m2 54 rfl) rfl
theorem q368 : (Jvm.Cond.lays "java/util/NoSuchElementException" "java/lang/Throwable" "backtrace" "Ljava/lang/Object;") ∈ lw_all := lw_g (lw_at lw_m2 56 rfl) rfl
theorem q398 : (Jvm.Cond.instanceMethod ({ cls := "java/util/NoSuchElementException", name := "<init>", desc := "()V" } : Jvm.MethodName)) ∈ lw_all := lw_g (lw_at lw_m2 86 rfl) rfl
theorem q399 : (Jvm.Cond.code ({ cls := "java/util/NoSuchElementException", name := "<init>", desc := "()V" } : Jvm.MethodName) prog_77_method_1_code (1 : Nat) (Option.none : Option Jvm.ClassFile.FieldType)) ∈ lw_all := lw_g (lw_at lw_m2 87 rfl) rfl
theorem q400 : (Jvm.Cond.methodLink "java/util/NoSuchElementException" (1 : Nat) ({ cls := "java/lang/RuntimeException", name := "<init>", desc := "()V" } : Jvm.MethodName)) ∈ lw_all := lw_g (lw_at lw_m2 88 rfl) rfl
theorem q416 : (Jvm.Cond.lays "java/util/NoSuchElementException" "java/lang/Throwable" "depth" "I") ∈ lw_all := lw_g (lw_at lw_m2 104 rfl) rfl
theorem q419 : (Jvm.Cond.superclass "java/util/NoSuchElementException" "java/lang/RuntimeException") ∈ lw_all := lw_g (lw_at lw_m2 107 rfl) rfl
theorem q528 : (Jvm.Cond.selects "java/util/NoSuchElementException" ({ cls := "java/lang/Object", name := "getClass", desc := "()Ljava/lang/Class;" } : Jvm.MethodName) ({ cls := "java/lang/Object", name := "getClass", desc := "()Ljava/lang/Class;" } : Jvm.MethodName)) ∈ lw_all := lw_g (lw_at lw_m2 216 rfl) rfl
theorem q3160 : (Jvm.Cond.castable "java/util/NoSuchElementException" "java/lang/Object") ∈ lw_tbl := lw_at lw_m13 208 rfl
theorem in_J18 : ∀ w ∈ wsJ180, w ∈ lw_all := lw_in wsJ180 [360, 362, 364, 366, 368, 416] (by decide +kernel) (by decide +kernel)
/-! java/util/ArrayList$Itr -/
set_option maxRecDepth 100000
def RJ19 : String := "java/util/ArrayList$Itr"
def TJ19 : u_T := fun k => match k with
  | 0 => ("java/util/ArrayList$Itr", "cursor", "I", false)
  | 1 => ("java/util/ArrayList$Itr", "lastRet", "I", false)
  | 2 => ("java/util/ArrayList$Itr", "expectedModCount", "I", false)
  | _ => ("java/util/ArrayList$Itr", "this$0", "Ljava/util/ArrayList;", true)
def tyJ19 : Nat → FieldType := fun k => match k with
  | 0 => .int
  | 1 => .int
  | 2 => .int
  | _ => .object "java/util/ArrayList"
abbrev wsJ190 : List Cond := u_ws RJ19 TJ19 4
theorem nmJ19 : ∀ a, a < 4 → ∀ b, b < 4 → a ≠ b → (TJ19 a).2.1 ≠ (TJ19 b).2.1 := by decide +kernel
theorem tyJ19_ok : ∀ k, k < 4 → parseFieldDescriptor (TJ19 k).2.2.1 = some (tyJ19 k) := by decide +kernel
abbrev cJ19_init : ByteArray := prog_64_method_1_code
def yJ19_init : MethodName := ⟨RJ19, "<init>", "(Ljava/util/ArrayList;)V"⟩
def dkwJ19_init_1 : List UInt8 := [181, 0, 22, 177]
abbrev dktJ19_init_1 : List UInt8 := dkwJ19_init_1 ++ []
def dkwJ19_init_0 : List UInt8 := [42, 43, 181, 0, 1, 42, 183, 0, 7, 42, 2, 181, 0, 13, 42, 42, 180, 0, 1, 180, 0, 17]
abbrev dktJ19_init_0 : List UInt8 := dkwJ19_init_0 ++ dktJ19_init_1
theorem dksJ19_init_0 : cJ19_init.data.toList.drop 0 = dktJ19_init_0 := by decide +kernel
theorem dksJ19_init_1 : cJ19_init.data.toList.drop 22 = dktJ19_init_1 := dk_seg dksJ19_init_0 22 rfl rfl
theorem dJ19_init_0 : decode cJ19_init 0 = .ok (.aload_n 0, 1) := dk_42 (dk_at dksJ19_init_0 0 rfl rfl)
theorem dJ19_init_1 : decode cJ19_init 1 = .ok (.aload_n 1, 1) := dk_43 (dk_at dksJ19_init_0 1 rfl rfl)
theorem dJ19_init_2 : decode cJ19_init 2 = .ok (.putfield 1, 3) := dk_181 0 1 (dk_at dksJ19_init_0 2 rfl rfl)
theorem dJ19_init_5 : decode cJ19_init 5 = .ok (.aload_n 0, 1) := dk_42 (dk_at dksJ19_init_0 5 rfl rfl)
theorem dJ19_init_6 : decode cJ19_init 6 = .ok (.invokespecial 7, 3) := dk_183 0 7 (dk_at dksJ19_init_0 6 rfl rfl)
theorem dJ19_init_9 : decode cJ19_init 9 = .ok (.aload_n 0, 1) := dk_42 (dk_at dksJ19_init_0 9 rfl rfl)
theorem dJ19_init_10 : decode cJ19_init 10 = .ok (.iconst (-1), 1) := dk_2 (dk_at dksJ19_init_0 10 rfl rfl)
theorem dJ19_init_11 : decode cJ19_init 11 = .ok (.putfield 13, 3) := dk_181 0 13 (dk_at dksJ19_init_0 11 rfl rfl)
theorem dJ19_init_14 : decode cJ19_init 14 = .ok (.aload_n 0, 1) := dk_42 (dk_at dksJ19_init_0 14 rfl rfl)
theorem dJ19_init_15 : decode cJ19_init 15 = .ok (.aload_n 0, 1) := dk_42 (dk_at dksJ19_init_0 15 rfl rfl)
theorem dJ19_init_16 : decode cJ19_init 16 = .ok (.getfield 1, 3) := dk_180 0 1 (dk_at dksJ19_init_0 16 rfl rfl)
theorem dJ19_init_19 : decode cJ19_init 19 = .ok (.getfield 17, 3) := dk_180 0 17 (dk_at dksJ19_init_0 19 rfl rfl)
theorem dJ19_init_22 : decode cJ19_init 22 = .ok (.putfield 22, 3) := dk_181 0 22 (dk_at dksJ19_init_1 0 rfl rfl)
theorem dJ19_init_25 : decode cJ19_init 25 = .ok (.return_, 1) := dk_177 (dk_at dksJ19_init_1 3 rfl rfl)
abbrev cJ19_hasNext : ByteArray := prog_64_method_2_code
def yJ19_hasNext : MethodName := ⟨RJ19, "hasNext", "()Z"⟩
def dkwJ19_hasNext_0 : List UInt8 := [42, 180, 0, 25, 42, 180, 0, 1, 180, 0, 28, 159, 0, 7, 4, 167, 0, 4, 3, 172]
abbrev dktJ19_hasNext_0 : List UInt8 := dkwJ19_hasNext_0 ++ []
theorem dksJ19_hasNext_0 : cJ19_hasNext.data.toList.drop 0 = dktJ19_hasNext_0 := by decide +kernel
theorem dJ19_hasNext_0 : decode cJ19_hasNext 0 = .ok (.aload_n 0, 1) := dk_42 (dk_at dksJ19_hasNext_0 0 rfl rfl)
theorem dJ19_hasNext_1 : decode cJ19_hasNext 1 = .ok (.getfield 25, 3) := dk_180 0 25 (dk_at dksJ19_hasNext_0 1 rfl rfl)
theorem dJ19_hasNext_4 : decode cJ19_hasNext 4 = .ok (.aload_n 0, 1) := dk_42 (dk_at dksJ19_hasNext_0 4 rfl rfl)
theorem dJ19_hasNext_5 : decode cJ19_hasNext 5 = .ok (.getfield 1, 3) := dk_180 0 1 (dk_at dksJ19_hasNext_0 5 rfl rfl)
theorem dJ19_hasNext_8 : decode cJ19_hasNext 8 = .ok (.getfield 28, 3) := dk_180 0 28 (dk_at dksJ19_hasNext_0 8 rfl rfl)
theorem dJ19_hasNext_11 : decode cJ19_hasNext 11 = .ok (.if_icmp .eq 7, 3) := dk_159 0 7 (dk_at dksJ19_hasNext_0 11 rfl rfl)
theorem dJ19_hasNext_14 : decode cJ19_hasNext 14 = .ok (.iconst 1, 1) := dk_4 (dk_at dksJ19_hasNext_0 14 rfl rfl)
theorem dJ19_hasNext_15 : decode cJ19_hasNext 15 = .ok (.goto 4, 3) := dk_167 0 4 (dk_at dksJ19_hasNext_0 15 rfl rfl)
theorem dJ19_hasNext_18 : decode cJ19_hasNext 18 = .ok (.iconst 0, 1) := dk_3 (dk_at dksJ19_hasNext_0 18 rfl rfl)
theorem dJ19_hasNext_19 : decode cJ19_hasNext 19 = .ok (.ireturn, 1) := dk_172 (dk_at dksJ19_hasNext_0 19 rfl rfl)
abbrev cJ19_next : ByteArray := prog_64_method_3_code
def yJ19_next : MethodName := ⟨RJ19, "next", "()Ljava/lang/Object;"⟩
def dkwJ19_next_2 : List UInt8 := [183, 0, 43, 191, 42, 27, 4, 96, 181, 0, 25, 44, 42, 27, 90, 181, 0, 13, 50, 176]
abbrev dktJ19_next_2 : List UInt8 := dkwJ19_next_2 ++ []
def dkwJ19_next_1 : List UInt8 := [183, 0, 36, 191, 42, 180, 0, 1, 180, 0, 37, 77, 27, 44, 190, 161, 0, 11, 187, 0, 41, 89]
abbrev dktJ19_next_1 : List UInt8 := dkwJ19_next_1 ++ dktJ19_next_2
def dkwJ19_next_0 : List UInt8 := [42, 182, 0, 31, 42, 180, 0, 25, 60, 27, 42, 180, 0, 1, 180, 0, 28, 161, 0, 11, 187, 0, 34, 89]
abbrev dktJ19_next_0 : List UInt8 := dkwJ19_next_0 ++ dktJ19_next_1
theorem dksJ19_next_0 : cJ19_next.data.toList.drop 0 = dktJ19_next_0 := by decide +kernel
theorem dksJ19_next_1 : cJ19_next.data.toList.drop 24 = dktJ19_next_1 := dk_seg dksJ19_next_0 24 rfl rfl
theorem dksJ19_next_2 : cJ19_next.data.toList.drop 46 = dktJ19_next_2 := dk_seg dksJ19_next_1 22 rfl rfl
theorem dJ19_next_0 : decode cJ19_next 0 = .ok (.aload_n 0, 1) := dk_42 (dk_at dksJ19_next_0 0 rfl rfl)
theorem dJ19_next_1 : decode cJ19_next 1 = .ok (.invokevirtual 31, 3) := dk_182 0 31 (dk_at dksJ19_next_0 1 rfl rfl)
theorem dJ19_next_4 : decode cJ19_next 4 = .ok (.aload_n 0, 1) := dk_42 (dk_at dksJ19_next_0 4 rfl rfl)
theorem dJ19_next_5 : decode cJ19_next 5 = .ok (.getfield 25, 3) := dk_180 0 25 (dk_at dksJ19_next_0 5 rfl rfl)
theorem dJ19_next_8 : decode cJ19_next 8 = .ok (.istore_n 1, 1) := dk_60 (dk_at dksJ19_next_0 8 rfl rfl)
theorem dJ19_next_9 : decode cJ19_next 9 = .ok (.iload_n 1, 1) := dk_27 (dk_at dksJ19_next_0 9 rfl rfl)
theorem dJ19_next_10 : decode cJ19_next 10 = .ok (.aload_n 0, 1) := dk_42 (dk_at dksJ19_next_0 10 rfl rfl)
theorem dJ19_next_11 : decode cJ19_next 11 = .ok (.getfield 1, 3) := dk_180 0 1 (dk_at dksJ19_next_0 11 rfl rfl)
theorem dJ19_next_14 : decode cJ19_next 14 = .ok (.getfield 28, 3) := dk_180 0 28 (dk_at dksJ19_next_0 14 rfl rfl)
theorem dJ19_next_17 : decode cJ19_next 17 = .ok (.if_icmp .lt 11, 3) := dk_161 0 11 (dk_at dksJ19_next_0 17 rfl rfl)
theorem dJ19_next_20 : decode cJ19_next 20 = .ok (.new 34, 3) := dk_187 0 34 (dk_at dksJ19_next_0 20 rfl rfl)
theorem dJ19_next_23 : decode cJ19_next 23 = .ok (.dup, 1) := dk_89 (dk_at dksJ19_next_0 23 rfl rfl)
theorem dJ19_next_24 : decode cJ19_next 24 = .ok (.invokespecial 36, 3) := dk_183 0 36 (dk_at dksJ19_next_1 0 rfl rfl)
theorem dJ19_next_27 : decode cJ19_next 27 = .ok (.athrow, 1) := dk_191 (dk_at dksJ19_next_1 3 rfl rfl)
theorem dJ19_next_28 : decode cJ19_next 28 = .ok (.aload_n 0, 1) := dk_42 (dk_at dksJ19_next_1 4 rfl rfl)
theorem dJ19_next_29 : decode cJ19_next 29 = .ok (.getfield 1, 3) := dk_180 0 1 (dk_at dksJ19_next_1 5 rfl rfl)
theorem dJ19_next_32 : decode cJ19_next 32 = .ok (.getfield 37, 3) := dk_180 0 37 (dk_at dksJ19_next_1 8 rfl rfl)
theorem dJ19_next_35 : decode cJ19_next 35 = .ok (.astore_n 2, 1) := dk_77 (dk_at dksJ19_next_1 11 rfl rfl)
theorem dJ19_next_36 : decode cJ19_next 36 = .ok (.iload_n 1, 1) := dk_27 (dk_at dksJ19_next_1 12 rfl rfl)
theorem dJ19_next_37 : decode cJ19_next 37 = .ok (.aload_n 2, 1) := dk_44 (dk_at dksJ19_next_1 13 rfl rfl)
theorem dJ19_next_38 : decode cJ19_next 38 = .ok (.arraylength, 1) := dk_190 (dk_at dksJ19_next_1 14 rfl rfl)
theorem dJ19_next_39 : decode cJ19_next 39 = .ok (.if_icmp .lt 11, 3) := dk_161 0 11 (dk_at dksJ19_next_1 15 rfl rfl)
theorem dJ19_next_42 : decode cJ19_next 42 = .ok (.new 41, 3) := dk_187 0 41 (dk_at dksJ19_next_1 18 rfl rfl)
theorem dJ19_next_45 : decode cJ19_next 45 = .ok (.dup, 1) := dk_89 (dk_at dksJ19_next_1 21 rfl rfl)
theorem dJ19_next_46 : decode cJ19_next 46 = .ok (.invokespecial 43, 3) := dk_183 0 43 (dk_at dksJ19_next_2 0 rfl rfl)
theorem dJ19_next_49 : decode cJ19_next 49 = .ok (.athrow, 1) := dk_191 (dk_at dksJ19_next_2 3 rfl rfl)
theorem dJ19_next_50 : decode cJ19_next 50 = .ok (.aload_n 0, 1) := dk_42 (dk_at dksJ19_next_2 4 rfl rfl)
theorem dJ19_next_51 : decode cJ19_next 51 = .ok (.iload_n 1, 1) := dk_27 (dk_at dksJ19_next_2 5 rfl rfl)
theorem dJ19_next_52 : decode cJ19_next 52 = .ok (.iconst 1, 1) := dk_4 (dk_at dksJ19_next_2 6 rfl rfl)
theorem dJ19_next_53 : decode cJ19_next 53 = .ok (.iadd, 1) := dk_96 (dk_at dksJ19_next_2 7 rfl rfl)
theorem dJ19_next_54 : decode cJ19_next 54 = .ok (.putfield 25, 3) := dk_181 0 25 (dk_at dksJ19_next_2 8 rfl rfl)
theorem dJ19_next_57 : decode cJ19_next 57 = .ok (.aload_n 2, 1) := dk_44 (dk_at dksJ19_next_2 11 rfl rfl)
theorem dJ19_next_58 : decode cJ19_next 58 = .ok (.aload_n 0, 1) := dk_42 (dk_at dksJ19_next_2 12 rfl rfl)
theorem dJ19_next_59 : decode cJ19_next 59 = .ok (.iload_n 1, 1) := dk_27 (dk_at dksJ19_next_2 13 rfl rfl)
theorem dJ19_next_60 : decode cJ19_next 60 = .ok (.dup_x1, 1) := dk_90 (dk_at dksJ19_next_2 14 rfl rfl)
theorem dJ19_next_61 : decode cJ19_next 61 = .ok (.putfield 13, 3) := dk_181 0 13 (dk_at dksJ19_next_2 15 rfl rfl)
theorem dJ19_next_64 : decode cJ19_next 64 = .ok (.aaload, 1) := dk_50 (dk_at dksJ19_next_2 18 rfl rfl)
theorem dJ19_next_65 : decode cJ19_next 65 = .ok (.areturn, 1) := dk_176 (dk_at dksJ19_next_2 19 rfl rfl)
abbrev cJ19_checkForComodification : ByteArray := prog_64_method_6_code
def yJ19_checkForComodification : MethodName := ⟨RJ19, "checkForComodification", "()V"⟩
def dkwJ19_checkForComodification_0 : List UInt8 := [42, 180, 0, 1, 180, 0, 17, 42, 180, 0, 22, 159, 0, 11, 187, 0, 41, 89, 183, 0, 43, 191, 177]
abbrev dktJ19_checkForComodification_0 : List UInt8 := dkwJ19_checkForComodification_0 ++ []
theorem dksJ19_checkForComodification_0 : cJ19_checkForComodification.data.toList.drop 0 = dktJ19_checkForComodification_0 := by decide +kernel
theorem dJ19_checkForComodification_0 : decode cJ19_checkForComodification 0 = .ok (.aload_n 0, 1) := dk_42 (dk_at dksJ19_checkForComodification_0 0 rfl rfl)
theorem dJ19_checkForComodification_1 : decode cJ19_checkForComodification 1 = .ok (.getfield 1, 3) := dk_180 0 1 (dk_at dksJ19_checkForComodification_0 1 rfl rfl)
theorem dJ19_checkForComodification_4 : decode cJ19_checkForComodification 4 = .ok (.getfield 17, 3) := dk_180 0 17 (dk_at dksJ19_checkForComodification_0 4 rfl rfl)
theorem dJ19_checkForComodification_7 : decode cJ19_checkForComodification 7 = .ok (.aload_n 0, 1) := dk_42 (dk_at dksJ19_checkForComodification_0 7 rfl rfl)
theorem dJ19_checkForComodification_8 : decode cJ19_checkForComodification 8 = .ok (.getfield 22, 3) := dk_180 0 22 (dk_at dksJ19_checkForComodification_0 8 rfl rfl)
theorem dJ19_checkForComodification_11 : decode cJ19_checkForComodification 11 = .ok (.if_icmp .eq 11, 3) := dk_159 0 11 (dk_at dksJ19_checkForComodification_0 11 rfl rfl)
theorem dJ19_checkForComodification_14 : decode cJ19_checkForComodification 14 = .ok (.new 41, 3) := dk_187 0 41 (dk_at dksJ19_checkForComodification_0 14 rfl rfl)
theorem dJ19_checkForComodification_17 : decode cJ19_checkForComodification 17 = .ok (.dup, 1) := dk_89 (dk_at dksJ19_checkForComodification_0 17 rfl rfl)
theorem dJ19_checkForComodification_18 : decode cJ19_checkForComodification 18 = .ok (.invokespecial 43, 3) := dk_183 0 43 (dk_at dksJ19_checkForComodification_0 18 rfl rfl)
theorem dJ19_checkForComodification_21 : decode cJ19_checkForComodification 21 = .ok (.athrow, 1) := dk_191 (dk_at dksJ19_checkForComodification_0 21 rfl rfl)
theorem dJ19_checkForComodification_22 : decode cJ19_checkForComodification 22 = .ok (.return_, 1) := dk_177 (dk_at dksJ19_checkForComodification_0 22 rfl rfl)
theorem q96 : (Jvm.Cond.initialized "java/util/ArrayList$Itr") ∈ lw_all := lw_g (lw_at lw_m1 24 rfl) rfl
theorem q161 : (Jvm.Cond.fieldLink "java/util/ArrayList$Itr" (37 : Nat) "java/util/ArrayList" "elementData" "[Ljava/lang/Object;") ∈ lw_all := lw_g (lw_at lw_m1 89 rfl) rfl
theorem q162 : (Jvm.Cond.fieldLinkNest "java/util/ArrayList$Itr" (28 : Nat) "java/util/ArrayList" "size" "I" "java/util/ArrayList") ∈ lw_tbl := lw_at lw_m1 90 rfl
theorem q165 : (Jvm.Cond.fieldLink "java/util/ArrayList$Itr" (17 : Nat) "java/util/ArrayList" "modCount" "I") ∈ lw_all := lw_g (lw_at lw_m1 93 rfl) rfl
theorem q308 : (Jvm.Cond.instantiable "java/util/ArrayList$Itr" (4 : Nat)) ∈ lw_all := lw_g (lw_at lw_m1 236 rfl) rfl
theorem q310 : (Jvm.Cond.instanceMethod ({ cls := "java/util/ArrayList$Itr", name := "<init>", desc := "(Ljava/util/ArrayList;)V" } : Jvm.MethodName)) ∈ lw_all := lw_g (lw_at lw_m1 238 rfl) rfl
theorem q311 : (Jvm.Cond.code ({ cls := "java/util/ArrayList$Itr", name := "<init>", desc := "(Ljava/util/ArrayList;)V" } : Jvm.MethodName) prog_64_method_1_code (2 : Nat) (Option.none : Option Jvm.ClassFile.FieldType)) ∈ lw_all := lw_g (lw_at lw_m1 239 rfl) rfl
theorem q312 : (Jvm.Cond.methodLink "java/util/ArrayList$Itr" (7 : Nat) ({ cls := "java/lang/Object", name := "<init>", desc := "()V" } : Jvm.MethodName)) ∈ lw_all := lw_g (lw_at lw_m2 0 rfl) rfl
theorem q313 : (Jvm.Cond.fieldLink "java/util/ArrayList$Itr" (25 : Nat) "java/util/ArrayList$Itr" "cursor" "I") ∈ lw_all := lw_g (lw_at lw_m2 1 rfl) rfl
theorem q314 : (Jvm.Cond.fieldLink "java/util/ArrayList$Itr" (13 : Nat) "java/util/ArrayList$Itr" "lastRet" "I") ∈ lw_all := lw_g (lw_at lw_m2 2 rfl) rfl
theorem q315 : (Jvm.Cond.fieldLink "java/util/ArrayList$Itr" (22 : Nat) "java/util/ArrayList$Itr" "expectedModCount" "I") ∈ lw_all := lw_g (lw_at lw_m2 3 rfl) rfl
theorem q316 : (Jvm.Cond.fieldLink "java/util/ArrayList$Itr" (1 : Nat) "java/util/ArrayList$Itr" "this$0" "Ljava/util/ArrayList;") ∈ lw_all := lw_g (lw_at lw_m2 4 rfl) rfl
theorem q317 : (Jvm.Cond.lays "java/util/ArrayList$Itr" "java/util/ArrayList$Itr" "cursor" "I") ∈ lw_all := lw_g (lw_at lw_m2 5 rfl) rfl
theorem q318 : (Jvm.Cond.soleField "java/util/ArrayList$Itr" "cursor") ∈ lw_all := lw_g (lw_at lw_m2 6 rfl) rfl
theorem q319 : (Jvm.Cond.lays "java/util/ArrayList$Itr" "java/util/ArrayList$Itr" "lastRet" "I") ∈ lw_all := lw_g (lw_at lw_m2 7 rfl) rfl
theorem q320 : (Jvm.Cond.soleField "java/util/ArrayList$Itr" "lastRet") ∈ lw_all := lw_g (lw_at lw_m2 8 rfl) rfl
theorem q321 : (Jvm.Cond.lays "java/util/ArrayList$Itr" "java/util/ArrayList$Itr" "expectedModCount" "I") ∈ lw_all := lw_g (lw_at lw_m2 9 rfl) rfl
theorem q322 : (Jvm.Cond.soleField "java/util/ArrayList$Itr" "expectedModCount") ∈ lw_all := lw_g (lw_at lw_m2 10 rfl) rfl
theorem q323 : (Jvm.Cond.laysFinal "java/util/ArrayList$Itr" "java/util/ArrayList$Itr" "this$0" "Ljava/util/ArrayList;") ∈ lw_all := lw_g (lw_at lw_m2 11 rfl) rfl
theorem q324 : (Jvm.Cond.soleField "java/util/ArrayList$Itr" "this$0") ∈ lw_all := lw_g (lw_at lw_m2 12 rfl) rfl
theorem q325 : (Jvm.Cond.superclass "java/util/ArrayList$Itr" "java/lang/Object") ∈ lw_all := lw_g (lw_at lw_m2 13 rfl) rfl
theorem q330 : (Jvm.Cond.castable "java/util/ArrayList$Itr" "java/util/Iterator") ∈ lw_tbl := lw_at lw_m2 18 rfl
theorem q331 : (Jvm.Cond.selects "java/util/ArrayList$Itr" ({ cls := "java/util/Iterator", name := "hasNext", desc := "()Z" } : Jvm.MethodName) ({ cls := "java/util/ArrayList$Itr", name := "hasNext", desc := "()Z" } : Jvm.MethodName)) ∈ lw_all := lw_g (lw_at lw_m2 19 rfl) rfl
theorem q332 : (Jvm.Cond.unhidden "java/util/ArrayList$Itr" "hasNext" "()Z") ∈ lw_tbl := lw_at lw_m2 20 rfl
theorem q333 : (Jvm.Cond.instanceMethod ({ cls := "java/util/ArrayList$Itr", name := "hasNext", desc := "()Z" } : Jvm.MethodName)) ∈ lw_all := lw_g (lw_at lw_m2 21 rfl) rfl
theorem q334 : (Jvm.Cond.publicMethod ({ cls := "java/util/ArrayList$Itr", name := "hasNext", desc := "()Z" } : Jvm.MethodName)) ∈ lw_tbl := lw_at lw_m2 22 rfl
theorem q335 : (Jvm.Cond.code ({ cls := "java/util/ArrayList$Itr", name := "hasNext", desc := "()Z" } : Jvm.MethodName) prog_64_method_2_code (1 : Nat) (Option.some Jvm.ClassFile.FieldType.boolean)) ∈ lw_all := lw_g (lw_at lw_m2 23 rfl) rfl
theorem q340 : (Jvm.Cond.selects "java/util/ArrayList$Itr" ({ cls := "java/util/Iterator", name := "next", desc := "()Ljava/lang/Object;" } : Jvm.MethodName) ({ cls := "java/util/ArrayList$Itr", name := "next", desc := "()Ljava/lang/Object;" } : Jvm.MethodName)) ∈ lw_all := lw_g (lw_at lw_m2 28 rfl) rfl
theorem q341 : (Jvm.Cond.unhidden "java/util/ArrayList$Itr" "next" "()Ljava/lang/Object;") ∈ lw_tbl := lw_at lw_m2 29 rfl
theorem q342 : (Jvm.Cond.instanceMethod ({ cls := "java/util/ArrayList$Itr", name := "next", desc := "()Ljava/lang/Object;" } : Jvm.MethodName)) ∈ lw_all := lw_g (lw_at lw_m2 30 rfl) rfl
theorem q343 : (Jvm.Cond.publicMethod ({ cls := "java/util/ArrayList$Itr", name := "next", desc := "()Ljava/lang/Object;" } : Jvm.MethodName)) ∈ lw_tbl := lw_at lw_m2 31 rfl
theorem q344 : (Jvm.Cond.code ({ cls := "java/util/ArrayList$Itr", name := "next", desc := "()Ljava/lang/Object;" } : Jvm.MethodName) prog_64_method_3_code (3 : Nat) (Option.some (Jvm.ClassFile.FieldType.object "java/lang/Object"))) ∈ lw_all := lw_g (lw_at lw_m2 32 rfl) rfl
theorem q345 : (Jvm.Cond.methodLink "java/util/ArrayList$Itr" (31 : Nat) ({ cls := "java/util/ArrayList$Itr", name := "checkForComodification", desc := "()V" } : Jvm.MethodName)) ∈ lw_all := lw_g (lw_at lw_m2 33 rfl) rfl
theorem q346 : (Jvm.Cond.instanceMethod ({ cls := "java/util/ArrayList$Itr", name := "checkForComodification", desc := "()V" } : Jvm.MethodName)) ∈ lw_all := lw_g (lw_at lw_m2 34 rfl) rfl
theorem q347 : (Jvm.Cond.selects "java/util/ArrayList$Itr" ({ cls := "java/util/ArrayList$Itr", name := "checkForComodification", desc := "()V" } : Jvm.MethodName) ({ cls := "java/util/ArrayList$Itr", name := "checkForComodification", desc := "()V" } : Jvm.MethodName)) ∈ lw_all := lw_g (lw_at lw_m2 35 rfl) rfl
theorem q348 : (Jvm.Cond.code ({ cls := "java/util/ArrayList$Itr", name := "checkForComodification", desc := "()V" } : Jvm.MethodName) prog_64_method_6_code (1 : Nat) (Option.none : Option Jvm.ClassFile.FieldType)) ∈ lw_all := lw_g (lw_at lw_m2 36 rfl) rfl
theorem q349 : (Jvm.Cond.classLink "java/util/ArrayList$Itr" (34 : Nat) "java/util/NoSuchElementException") ∈ lw_all := lw_g (lw_at lw_m2 37 rfl) rfl
theorem q397 : (Jvm.Cond.methodLink "java/util/ArrayList$Itr" (36 : Nat) ({ cls := "java/util/NoSuchElementException", name := "<init>", desc := "()V" } : Jvm.MethodName)) ∈ lw_all := lw_g (lw_at lw_m2 85 rfl) rfl
theorem q523 : (Jvm.Cond.selects "java/util/ArrayList$Itr" ({ cls := "java/lang/Object", name := "getClass", desc := "()Ljava/lang/Class;" } : Jvm.MethodName) ({ cls := "java/lang/Object", name := "getClass", desc := "()Ljava/lang/Class;" } : Jvm.MethodName)) ∈ lw_all := lw_g (lw_at lw_m2 211 rfl) rfl
theorem q3161 : (Jvm.Cond.castable "java/util/ArrayList$Itr" "java/lang/Object") ∈ lw_tbl := lw_at lw_m13 209 rfl
theorem in_J19 : ∀ w ∈ wsJ190, w ∈ lw_all := lw_in wsJ190 [317, 319, 321, 323] (by decide +kernel) (by decide +kernel)
/-! java/lang/Number -/
set_option maxRecDepth 100000
def RJ20 : String := "java/lang/Number"
abbrev cJ20_init : ByteArray := prog_45_method_1_code
def yJ20_init : MethodName := ⟨RJ20, "<init>", "()V"⟩
theorem dJ20_init_0 : decode cJ20_init 0 = .ok (.aload_n 0, 1) := by decide +kernel
theorem dJ20_init_1 : decode cJ20_init 1 = .ok (.invokespecial 1, 3) := by decide +kernel
theorem dJ20_init_4 : decode cJ20_init 4 = .ok (.return_, 1) := by decide +kernel
theorem q99 : (Jvm.Cond.initialized "java/lang/Number") ∈ lw_all := lw_g (lw_at lw_m1 27 rfl) rfl
theorem q2232 : (Jvm.Cond.instanceMethod ({ cls := "java/lang/Number", name := "<init>", desc := "()V" } : Jvm.MethodName)) ∈ lw_all := lw_g (lw_at lw_m10 0 rfl) rfl
theorem q2233 : (Jvm.Cond.code ({ cls := "java/lang/Number", name := "<init>", desc := "()V" } : Jvm.MethodName) prog_45_method_1_code (1 : Nat) (Option.none : Option Jvm.ClassFile.FieldType)) ∈ lw_all := lw_g (lw_at lw_m10 1 rfl) rfl
theorem q2234 : (Jvm.Cond.methodLink "java/lang/Number" (1 : Nat) ({ cls := "java/lang/Object", name := "<init>", desc := "()V" } : Jvm.MethodName)) ∈ lw_all := lw_g (lw_at lw_m10 2 rfl) rfl
/-! java/lang/Integer -/
set_option maxRecDepth 100000
def RJ21 : String := "java/lang/Integer"
def TJ21 : u_T := fun k => match k with
  | _ => ("java/lang/Integer", "value", "I", true)
def tyJ21 : Nat → FieldType := fun k => match k with
  | _ => .int
abbrev wsJ210 : List Cond := u_ws RJ21 TJ21 1
theorem nmJ21 : ∀ a, a < 1 → ∀ b, b < 1 → a ≠ b → (TJ21 a).2.1 ≠ (TJ21 b).2.1 := by decide +kernel
theorem tyJ21_ok : ∀ k, k < 1 → parseFieldDescriptor (TJ21 k).2.2.1 = some (tyJ21 k) := by decide +kernel
abbrev cJ21_stringSize : ByteArray := prog_40_method_13_code
def yJ21_stringSize : MethodName := ⟨RJ21, "stringSize", "(I)I"⟩
def dkwJ21_stringSize_1 : List UInt8 := [164, 0, 7, 29, 27, 96, 172, 16, 10, 28, 104, 61, 132, 3, 1, 167, 255, 233, 16, 10, 27, 96, 172]
abbrev dktJ21_stringSize_1 : List UInt8 := dkwJ21_stringSize_1 ++ []
def dkwJ21_stringSize_0 : List UInt8 := [4, 60, 26, 155, 0, 8, 3, 60, 26, 116, 59, 16, 246, 61, 4, 62, 29, 16, 10, 162, 0, 23, 26, 28]
abbrev dktJ21_stringSize_0 : List UInt8 := dkwJ21_stringSize_0 ++ dktJ21_stringSize_1
theorem dksJ21_stringSize_0 : cJ21_stringSize.data.toList.drop 0 = dktJ21_stringSize_0 := by decide +kernel
theorem dksJ21_stringSize_1 : cJ21_stringSize.data.toList.drop 24 = dktJ21_stringSize_1 := dk_seg dksJ21_stringSize_0 24 rfl rfl
theorem dJ21_stringSize_0 : decode cJ21_stringSize 0 = .ok (.iconst 1, 1) := dk_4 (dk_at dksJ21_stringSize_0 0 rfl rfl)
theorem dJ21_stringSize_1 : decode cJ21_stringSize 1 = .ok (.istore_n 1, 1) := dk_60 (dk_at dksJ21_stringSize_0 1 rfl rfl)
theorem dJ21_stringSize_2 : decode cJ21_stringSize 2 = .ok (.iload_n 0, 1) := dk_26 (dk_at dksJ21_stringSize_0 2 rfl rfl)
theorem dJ21_stringSize_3 : decode cJ21_stringSize 3 = .ok (.ifCond .lt 8, 3) := dk_155 0 8 (dk_at dksJ21_stringSize_0 3 rfl rfl)
theorem dJ21_stringSize_6 : decode cJ21_stringSize 6 = .ok (.iconst 0, 1) := dk_3 (dk_at dksJ21_stringSize_0 6 rfl rfl)
theorem dJ21_stringSize_7 : decode cJ21_stringSize 7 = .ok (.istore_n 1, 1) := dk_60 (dk_at dksJ21_stringSize_0 7 rfl rfl)
theorem dJ21_stringSize_8 : decode cJ21_stringSize 8 = .ok (.iload_n 0, 1) := dk_26 (dk_at dksJ21_stringSize_0 8 rfl rfl)
theorem dJ21_stringSize_9 : decode cJ21_stringSize 9 = .ok (.ineg, 1) := dk_116 (dk_at dksJ21_stringSize_0 9 rfl rfl)
theorem dJ21_stringSize_10 : decode cJ21_stringSize 10 = .ok (.istore_n 0, 1) := dk_59 (dk_at dksJ21_stringSize_0 10 rfl rfl)
theorem dJ21_stringSize_11 : decode cJ21_stringSize 11 = .ok (.bipush (-10), 2) := dk_16 246 (dk_at dksJ21_stringSize_0 11 rfl rfl)
theorem dJ21_stringSize_13 : decode cJ21_stringSize 13 = .ok (.istore_n 2, 1) := dk_61 (dk_at dksJ21_stringSize_0 13 rfl rfl)
theorem dJ21_stringSize_14 : decode cJ21_stringSize 14 = .ok (.iconst 1, 1) := dk_4 (dk_at dksJ21_stringSize_0 14 rfl rfl)
theorem dJ21_stringSize_15 : decode cJ21_stringSize 15 = .ok (.istore_n 3, 1) := dk_62 (dk_at dksJ21_stringSize_0 15 rfl rfl)
theorem dJ21_stringSize_16 : decode cJ21_stringSize 16 = .ok (.iload_n 3, 1) := dk_29 (dk_at dksJ21_stringSize_0 16 rfl rfl)
theorem dJ21_stringSize_17 : decode cJ21_stringSize 17 = .ok (.bipush 10, 2) := dk_16 10 (dk_at dksJ21_stringSize_0 17 rfl rfl)
theorem dJ21_stringSize_19 : decode cJ21_stringSize 19 = .ok (.if_icmp .ge 23, 3) := dk_162 0 23 (dk_at dksJ21_stringSize_0 19 rfl rfl)
theorem dJ21_stringSize_22 : decode cJ21_stringSize 22 = .ok (.iload_n 0, 1) := dk_26 (dk_at dksJ21_stringSize_0 22 rfl rfl)
theorem dJ21_stringSize_23 : decode cJ21_stringSize 23 = .ok (.iload_n 2, 1) := dk_28 (dk_at dksJ21_stringSize_0 23 rfl rfl)
theorem dJ21_stringSize_24 : decode cJ21_stringSize 24 = .ok (.if_icmp .le 7, 3) := dk_164 0 7 (dk_at dksJ21_stringSize_1 0 rfl rfl)
theorem dJ21_stringSize_27 : decode cJ21_stringSize 27 = .ok (.iload_n 3, 1) := dk_29 (dk_at dksJ21_stringSize_1 3 rfl rfl)
theorem dJ21_stringSize_28 : decode cJ21_stringSize 28 = .ok (.iload_n 1, 1) := dk_27 (dk_at dksJ21_stringSize_1 4 rfl rfl)
theorem dJ21_stringSize_29 : decode cJ21_stringSize 29 = .ok (.iadd, 1) := dk_96 (dk_at dksJ21_stringSize_1 5 rfl rfl)
theorem dJ21_stringSize_30 : decode cJ21_stringSize 30 = .ok (.ireturn, 1) := dk_172 (dk_at dksJ21_stringSize_1 6 rfl rfl)
theorem dJ21_stringSize_31 : decode cJ21_stringSize 31 = .ok (.bipush 10, 2) := dk_16 10 (dk_at dksJ21_stringSize_1 7 rfl rfl)
theorem dJ21_stringSize_33 : decode cJ21_stringSize 33 = .ok (.iload_n 2, 1) := dk_28 (dk_at dksJ21_stringSize_1 9 rfl rfl)
theorem dJ21_stringSize_34 : decode cJ21_stringSize 34 = .ok (.imul, 1) := dk_104 (dk_at dksJ21_stringSize_1 10 rfl rfl)
theorem dJ21_stringSize_35 : decode cJ21_stringSize 35 = .ok (.istore_n 2, 1) := dk_61 (dk_at dksJ21_stringSize_1 11 rfl rfl)
theorem dJ21_stringSize_36 : decode cJ21_stringSize 36 = .ok (.iinc 3 1, 3) := dk_132 3 1 (dk_at dksJ21_stringSize_1 12 rfl rfl)
theorem dJ21_stringSize_39 : decode cJ21_stringSize 39 = .ok (.goto (-23), 3) := dk_167 255 233 (dk_at dksJ21_stringSize_1 15 rfl rfl)
theorem dJ21_stringSize_42 : decode cJ21_stringSize 42 = .ok (.bipush 10, 2) := dk_16 10 (dk_at dksJ21_stringSize_1 18 rfl rfl)
theorem dJ21_stringSize_44 : decode cJ21_stringSize 44 = .ok (.iload_n 1, 1) := dk_27 (dk_at dksJ21_stringSize_1 20 rfl rfl)
theorem dJ21_stringSize_45 : decode cJ21_stringSize 45 = .ok (.iadd, 1) := dk_96 (dk_at dksJ21_stringSize_1 21 rfl rfl)
theorem dJ21_stringSize_46 : decode cJ21_stringSize 46 = .ok (.ireturn, 1) := dk_172 (dk_at dksJ21_stringSize_1 22 rfl rfl)
abbrev cJ21_getChars : ByteArray := prog_40_method_12_code
def yJ21_getChars : MethodName := ⟨RJ21, "getChars", "(II[B)I"⟩
def dkwJ21_getChars_5 : List UInt8 := [16, 45, 84, 21, 5, 172]
abbrev dktJ21_getChars_5 : List UInt8 := dkwJ21_getChars_5 ++ []
def dkwJ21_getChars_4 : List UInt8 := [132, 5, 255, 21, 5, 178, 0, 87, 26, 116, 51, 84, 21, 6, 153, 0, 12, 44, 132, 5, 255, 21, 5]
abbrev dktJ21_getChars_4 : List UInt8 := dkwJ21_getChars_4 ++ dktJ21_getChars_5
def dkwJ21_getChars_3 : List UInt8 := [167, 255, 209, 44, 132, 5, 255, 21, 5, 178, 0, 83, 26, 116, 51, 84, 26, 16, 247, 162, 0, 16, 44]
abbrev dktJ21_getChars_3 : List UInt8 := dkwJ21_getChars_3 ++ dktJ21_getChars_4
def dkwJ21_getChars_2 : List UInt8 := [21, 5, 178, 0, 83, 21, 4, 51, 84, 44, 132, 5, 255, 21, 5, 178, 0, 87, 21, 4, 51, 84]
abbrev dktJ21_getChars_2 : List UInt8 := dkwJ21_getChars_2 ++ dktJ21_getChars_3
def dkwJ21_getChars_1 : List UInt8 := [16, 156, 163, 0, 47, 26, 16, 100, 108, 62, 29, 16, 100, 104, 26, 100, 54, 4, 29, 59, 44, 132, 5, 255]
abbrev dktJ21_getChars_1 : List UInt8 := dkwJ21_getChars_1 ++ dktJ21_getChars_2
def dkwJ21_getChars_0 : List UInt8 := [27, 54, 5, 26, 156, 0, 7, 4, 167, 0, 4, 3, 54, 6, 21, 6, 154, 0, 6, 26, 116, 59, 26]
abbrev dktJ21_getChars_0 : List UInt8 := dkwJ21_getChars_0 ++ dktJ21_getChars_1
theorem dksJ21_getChars_0 : cJ21_getChars.data.toList.drop 0 = dktJ21_getChars_0 := by decide +kernel
theorem dksJ21_getChars_1 : cJ21_getChars.data.toList.drop 23 = dktJ21_getChars_1 := dk_seg dksJ21_getChars_0 23 rfl rfl
theorem dksJ21_getChars_2 : cJ21_getChars.data.toList.drop 47 = dktJ21_getChars_2 := dk_seg dksJ21_getChars_1 24 rfl rfl
theorem dksJ21_getChars_3 : cJ21_getChars.data.toList.drop 69 = dktJ21_getChars_3 := dk_seg dksJ21_getChars_2 22 rfl rfl
theorem dksJ21_getChars_4 : cJ21_getChars.data.toList.drop 92 = dktJ21_getChars_4 := dk_seg dksJ21_getChars_3 23 rfl rfl
theorem dksJ21_getChars_5 : cJ21_getChars.data.toList.drop 115 = dktJ21_getChars_5 := dk_seg dksJ21_getChars_4 23 rfl rfl
theorem dJ21_getChars_0 : decode cJ21_getChars 0 = .ok (.iload_n 1, 1) := dk_27 (dk_at dksJ21_getChars_0 0 rfl rfl)
theorem dJ21_getChars_1 : decode cJ21_getChars 1 = .ok (.istore 5, 2) := dk_54 5 (dk_at dksJ21_getChars_0 1 rfl rfl)
theorem dJ21_getChars_3 : decode cJ21_getChars 3 = .ok (.iload_n 0, 1) := dk_26 (dk_at dksJ21_getChars_0 3 rfl rfl)
theorem dJ21_getChars_4 : decode cJ21_getChars 4 = .ok (.ifCond .ge 7, 3) := dk_156 0 7 (dk_at dksJ21_getChars_0 4 rfl rfl)
theorem dJ21_getChars_7 : decode cJ21_getChars 7 = .ok (.iconst 1, 1) := dk_4 (dk_at dksJ21_getChars_0 7 rfl rfl)
theorem dJ21_getChars_8 : decode cJ21_getChars 8 = .ok (.goto 4, 3) := dk_167 0 4 (dk_at dksJ21_getChars_0 8 rfl rfl)
theorem dJ21_getChars_11 : decode cJ21_getChars 11 = .ok (.iconst 0, 1) := dk_3 (dk_at dksJ21_getChars_0 11 rfl rfl)
theorem dJ21_getChars_12 : decode cJ21_getChars 12 = .ok (.istore 6, 2) := dk_54 6 (dk_at dksJ21_getChars_0 12 rfl rfl)
theorem dJ21_getChars_14 : decode cJ21_getChars 14 = .ok (.iload 6, 2) := dk_21 6 (dk_at dksJ21_getChars_0 14 rfl rfl)
theorem dJ21_getChars_16 : decode cJ21_getChars 16 = .ok (.ifCond .ne 6, 3) := dk_154 0 6 (dk_at dksJ21_getChars_0 16 rfl rfl)
theorem dJ21_getChars_19 : decode cJ21_getChars 19 = .ok (.iload_n 0, 1) := dk_26 (dk_at dksJ21_getChars_0 19 rfl rfl)
theorem dJ21_getChars_20 : decode cJ21_getChars 20 = .ok (.ineg, 1) := dk_116 (dk_at dksJ21_getChars_0 20 rfl rfl)
theorem dJ21_getChars_21 : decode cJ21_getChars 21 = .ok (.istore_n 0, 1) := dk_59 (dk_at dksJ21_getChars_0 21 rfl rfl)
theorem dJ21_getChars_22 : decode cJ21_getChars 22 = .ok (.iload_n 0, 1) := dk_26 (dk_at dksJ21_getChars_0 22 rfl rfl)
theorem dJ21_getChars_23 : decode cJ21_getChars 23 = .ok (.bipush (-100), 2) := dk_16 156 (dk_at dksJ21_getChars_1 0 rfl rfl)
theorem dJ21_getChars_25 : decode cJ21_getChars 25 = .ok (.if_icmp .gt 47, 3) := dk_163 0 47 (dk_at dksJ21_getChars_1 2 rfl rfl)
theorem dJ21_getChars_28 : decode cJ21_getChars 28 = .ok (.iload_n 0, 1) := dk_26 (dk_at dksJ21_getChars_1 5 rfl rfl)
theorem dJ21_getChars_29 : decode cJ21_getChars 29 = .ok (.bipush 100, 2) := dk_16 100 (dk_at dksJ21_getChars_1 6 rfl rfl)
theorem dJ21_getChars_31 : decode cJ21_getChars 31 = .ok (.idiv, 1) := dk_108 (dk_at dksJ21_getChars_1 8 rfl rfl)
theorem dJ21_getChars_32 : decode cJ21_getChars 32 = .ok (.istore_n 3, 1) := dk_62 (dk_at dksJ21_getChars_1 9 rfl rfl)
theorem dJ21_getChars_33 : decode cJ21_getChars 33 = .ok (.iload_n 3, 1) := dk_29 (dk_at dksJ21_getChars_1 10 rfl rfl)
theorem dJ21_getChars_34 : decode cJ21_getChars 34 = .ok (.bipush 100, 2) := dk_16 100 (dk_at dksJ21_getChars_1 11 rfl rfl)
theorem dJ21_getChars_36 : decode cJ21_getChars 36 = .ok (.imul, 1) := dk_104 (dk_at dksJ21_getChars_1 13 rfl rfl)
theorem dJ21_getChars_37 : decode cJ21_getChars 37 = .ok (.iload_n 0, 1) := dk_26 (dk_at dksJ21_getChars_1 14 rfl rfl)
theorem dJ21_getChars_38 : decode cJ21_getChars 38 = .ok (.isub, 1) := dk_100 (dk_at dksJ21_getChars_1 15 rfl rfl)
theorem dJ21_getChars_39 : decode cJ21_getChars 39 = .ok (.istore 4, 2) := dk_54 4 (dk_at dksJ21_getChars_1 16 rfl rfl)
theorem dJ21_getChars_41 : decode cJ21_getChars 41 = .ok (.iload_n 3, 1) := dk_29 (dk_at dksJ21_getChars_1 18 rfl rfl)
theorem dJ21_getChars_42 : decode cJ21_getChars 42 = .ok (.istore_n 0, 1) := dk_59 (dk_at dksJ21_getChars_1 19 rfl rfl)
theorem dJ21_getChars_43 : decode cJ21_getChars 43 = .ok (.aload_n 2, 1) := dk_44 (dk_at dksJ21_getChars_1 20 rfl rfl)
theorem dJ21_getChars_44 : decode cJ21_getChars 44 = .ok (.iinc 5 (-1), 3) := dk_132 5 255 (dk_at dksJ21_getChars_1 21 rfl rfl)
theorem dJ21_getChars_47 : decode cJ21_getChars 47 = .ok (.iload 5, 2) := dk_21 5 (dk_at dksJ21_getChars_2 0 rfl rfl)
theorem dJ21_getChars_49 : decode cJ21_getChars 49 = .ok (.getstatic 83, 3) := dk_178 0 83 (dk_at dksJ21_getChars_2 2 rfl rfl)
theorem dJ21_getChars_52 : decode cJ21_getChars 52 = .ok (.iload 4, 2) := dk_21 4 (dk_at dksJ21_getChars_2 5 rfl rfl)
theorem dJ21_getChars_54 : decode cJ21_getChars 54 = .ok (.baload, 1) := dk_51 (dk_at dksJ21_getChars_2 7 rfl rfl)
theorem dJ21_getChars_55 : decode cJ21_getChars 55 = .ok (.bastore, 1) := dk_84 (dk_at dksJ21_getChars_2 8 rfl rfl)
theorem dJ21_getChars_56 : decode cJ21_getChars 56 = .ok (.aload_n 2, 1) := dk_44 (dk_at dksJ21_getChars_2 9 rfl rfl)
theorem dJ21_getChars_57 : decode cJ21_getChars 57 = .ok (.iinc 5 (-1), 3) := dk_132 5 255 (dk_at dksJ21_getChars_2 10 rfl rfl)
theorem dJ21_getChars_60 : decode cJ21_getChars 60 = .ok (.iload 5, 2) := dk_21 5 (dk_at dksJ21_getChars_2 13 rfl rfl)
theorem dJ21_getChars_62 : decode cJ21_getChars 62 = .ok (.getstatic 87, 3) := dk_178 0 87 (dk_at dksJ21_getChars_2 15 rfl rfl)
theorem dJ21_getChars_65 : decode cJ21_getChars 65 = .ok (.iload 4, 2) := dk_21 4 (dk_at dksJ21_getChars_2 18 rfl rfl)
theorem dJ21_getChars_67 : decode cJ21_getChars 67 = .ok (.baload, 1) := dk_51 (dk_at dksJ21_getChars_2 20 rfl rfl)
theorem dJ21_getChars_68 : decode cJ21_getChars 68 = .ok (.bastore, 1) := dk_84 (dk_at dksJ21_getChars_2 21 rfl rfl)
theorem dJ21_getChars_69 : decode cJ21_getChars 69 = .ok (.goto (-47), 3) := dk_167 255 209 (dk_at dksJ21_getChars_3 0 rfl rfl)
theorem dJ21_getChars_72 : decode cJ21_getChars 72 = .ok (.aload_n 2, 1) := dk_44 (dk_at dksJ21_getChars_3 3 rfl rfl)
theorem dJ21_getChars_73 : decode cJ21_getChars 73 = .ok (.iinc 5 (-1), 3) := dk_132 5 255 (dk_at dksJ21_getChars_3 4 rfl rfl)
theorem dJ21_getChars_76 : decode cJ21_getChars 76 = .ok (.iload 5, 2) := dk_21 5 (dk_at dksJ21_getChars_3 7 rfl rfl)
theorem dJ21_getChars_78 : decode cJ21_getChars 78 = .ok (.getstatic 83, 3) := dk_178 0 83 (dk_at dksJ21_getChars_3 9 rfl rfl)
theorem dJ21_getChars_81 : decode cJ21_getChars 81 = .ok (.iload_n 0, 1) := dk_26 (dk_at dksJ21_getChars_3 12 rfl rfl)
theorem dJ21_getChars_82 : decode cJ21_getChars 82 = .ok (.ineg, 1) := dk_116 (dk_at dksJ21_getChars_3 13 rfl rfl)
theorem dJ21_getChars_83 : decode cJ21_getChars 83 = .ok (.baload, 1) := dk_51 (dk_at dksJ21_getChars_3 14 rfl rfl)
theorem dJ21_getChars_84 : decode cJ21_getChars 84 = .ok (.bastore, 1) := dk_84 (dk_at dksJ21_getChars_3 15 rfl rfl)
theorem dJ21_getChars_85 : decode cJ21_getChars 85 = .ok (.iload_n 0, 1) := dk_26 (dk_at dksJ21_getChars_3 16 rfl rfl)
theorem dJ21_getChars_86 : decode cJ21_getChars 86 = .ok (.bipush (-9), 2) := dk_16 247 (dk_at dksJ21_getChars_3 17 rfl rfl)
theorem dJ21_getChars_88 : decode cJ21_getChars 88 = .ok (.if_icmp .ge 16, 3) := dk_162 0 16 (dk_at dksJ21_getChars_3 19 rfl rfl)
theorem dJ21_getChars_91 : decode cJ21_getChars 91 = .ok (.aload_n 2, 1) := dk_44 (dk_at dksJ21_getChars_3 22 rfl rfl)
theorem dJ21_getChars_92 : decode cJ21_getChars 92 = .ok (.iinc 5 (-1), 3) := dk_132 5 255 (dk_at dksJ21_getChars_4 0 rfl rfl)
theorem dJ21_getChars_95 : decode cJ21_getChars 95 = .ok (.iload 5, 2) := dk_21 5 (dk_at dksJ21_getChars_4 3 rfl rfl)
theorem dJ21_getChars_97 : decode cJ21_getChars 97 = .ok (.getstatic 87, 3) := dk_178 0 87 (dk_at dksJ21_getChars_4 5 rfl rfl)
theorem dJ21_getChars_100 : decode cJ21_getChars 100 = .ok (.iload_n 0, 1) := dk_26 (dk_at dksJ21_getChars_4 8 rfl rfl)
theorem dJ21_getChars_101 : decode cJ21_getChars 101 = .ok (.ineg, 1) := dk_116 (dk_at dksJ21_getChars_4 9 rfl rfl)
theorem dJ21_getChars_102 : decode cJ21_getChars 102 = .ok (.baload, 1) := dk_51 (dk_at dksJ21_getChars_4 10 rfl rfl)
theorem dJ21_getChars_103 : decode cJ21_getChars 103 = .ok (.bastore, 1) := dk_84 (dk_at dksJ21_getChars_4 11 rfl rfl)
theorem dJ21_getChars_104 : decode cJ21_getChars 104 = .ok (.iload 6, 2) := dk_21 6 (dk_at dksJ21_getChars_4 12 rfl rfl)
theorem dJ21_getChars_106 : decode cJ21_getChars 106 = .ok (.ifCond .eq 12, 3) := dk_153 0 12 (dk_at dksJ21_getChars_4 14 rfl rfl)
theorem dJ21_getChars_109 : decode cJ21_getChars 109 = .ok (.aload_n 2, 1) := dk_44 (dk_at dksJ21_getChars_4 17 rfl rfl)
theorem dJ21_getChars_110 : decode cJ21_getChars 110 = .ok (.iinc 5 (-1), 3) := dk_132 5 255 (dk_at dksJ21_getChars_4 18 rfl rfl)
theorem dJ21_getChars_113 : decode cJ21_getChars 113 = .ok (.iload 5, 2) := dk_21 5 (dk_at dksJ21_getChars_4 21 rfl rfl)
theorem dJ21_getChars_115 : decode cJ21_getChars 115 = .ok (.bipush 45, 2) := dk_16 45 (dk_at dksJ21_getChars_5 0 rfl rfl)
theorem dJ21_getChars_117 : decode cJ21_getChars 117 = .ok (.bastore, 1) := dk_84 (dk_at dksJ21_getChars_5 2 rfl rfl)
theorem dJ21_getChars_118 : decode cJ21_getChars 118 = .ok (.iload 5, 2) := dk_21 5 (dk_at dksJ21_getChars_5 3 rfl rfl)
theorem dJ21_getChars_120 : decode cJ21_getChars 120 = .ok (.ireturn, 1) := dk_172 (dk_at dksJ21_getChars_5 5 rfl rfl)
abbrev cJ21_hashCode : ByteArray := prog_40_method_32_code
def yJ21_hashCode : MethodName := ⟨RJ21, "hashCode", "()I"⟩
def dkwJ21_hashCode_0 : List UInt8 := [42, 180, 0, 205, 184, 0, 208, 172]
abbrev dktJ21_hashCode_0 : List UInt8 := dkwJ21_hashCode_0 ++ []
theorem dksJ21_hashCode_0 : cJ21_hashCode.data.toList.drop 0 = dktJ21_hashCode_0 := by decide +kernel
theorem dJ21_hashCode_0 : decode cJ21_hashCode 0 = .ok (.aload_n 0, 1) := dk_42 (dk_at dksJ21_hashCode_0 0 rfl rfl)
theorem dJ21_hashCode_1 : decode cJ21_hashCode 1 = .ok (.getfield 205, 3) := dk_180 0 205 (dk_at dksJ21_hashCode_0 1 rfl rfl)
theorem dJ21_hashCode_4 : decode cJ21_hashCode 4 = .ok (.invokestatic 208, 3) := dk_184 0 208 (dk_at dksJ21_hashCode_0 4 rfl rfl)
theorem dJ21_hashCode_7 : decode cJ21_hashCode 7 = .ok (.ireturn, 1) := dk_172 (dk_at dksJ21_hashCode_0 7 rfl rfl)
abbrev cJ21_hashCode_2 : ByteArray := prog_40_method_33_code
def yJ21_hashCode_2 : MethodName := ⟨RJ21, "hashCode", "(I)I"⟩
theorem dJ21_hashCode_2_0 : decode cJ21_hashCode_2 0 = .ok (.iload_n 0, 1) := by decide +kernel
theorem dJ21_hashCode_2_1 : decode cJ21_hashCode_2 1 = .ok (.ireturn, 1) := by decide +kernel
abbrev cJ21_equals : ByteArray := prog_40_method_34_code
def yJ21_equals : MethodName := ⟨RJ21, "equals", "(Ljava/lang/Object;)Z"⟩
def dkwJ21_equals_1 : List UInt8 := [167, 0, 4, 3, 172, 3, 172]
abbrev dktJ21_equals_1 : List UInt8 := dkwJ21_equals_1 ++ []
def dkwJ21_equals_0 : List UInt8 := [43, 193, 0, 1, 153, 0, 23, 42, 180, 0, 205, 43, 192, 0, 1, 182, 0, 211, 160, 0, 7, 4]
abbrev dktJ21_equals_0 : List UInt8 := dkwJ21_equals_0 ++ dktJ21_equals_1
theorem dksJ21_equals_0 : cJ21_equals.data.toList.drop 0 = dktJ21_equals_0 := by decide +kernel
theorem dksJ21_equals_1 : cJ21_equals.data.toList.drop 22 = dktJ21_equals_1 := dk_seg dksJ21_equals_0 22 rfl rfl
theorem dJ21_equals_0 : decode cJ21_equals 0 = .ok (.aload_n 1, 1) := dk_43 (dk_at dksJ21_equals_0 0 rfl rfl)
theorem dJ21_equals_1 : decode cJ21_equals 1 = .ok (.instanceof 1, 3) := dk_193 0 1 (dk_at dksJ21_equals_0 1 rfl rfl)
theorem dJ21_equals_4 : decode cJ21_equals 4 = .ok (.ifCond .eq 23, 3) := dk_153 0 23 (dk_at dksJ21_equals_0 4 rfl rfl)
theorem dJ21_equals_7 : decode cJ21_equals 7 = .ok (.aload_n 0, 1) := dk_42 (dk_at dksJ21_equals_0 7 rfl rfl)
theorem dJ21_equals_8 : decode cJ21_equals 8 = .ok (.getfield 205, 3) := dk_180 0 205 (dk_at dksJ21_equals_0 8 rfl rfl)
theorem dJ21_equals_11 : decode cJ21_equals 11 = .ok (.aload_n 1, 1) := dk_43 (dk_at dksJ21_equals_0 11 rfl rfl)
theorem dJ21_equals_12 : decode cJ21_equals 12 = .ok (.checkcast 1, 3) := dk_192 0 1 (dk_at dksJ21_equals_0 12 rfl rfl)
theorem dJ21_equals_15 : decode cJ21_equals 15 = .ok (.invokevirtual 211, 3) := dk_182 0 211 (dk_at dksJ21_equals_0 15 rfl rfl)
theorem dJ21_equals_18 : decode cJ21_equals 18 = .ok (.if_icmp .ne 7, 3) := dk_160 0 7 (dk_at dksJ21_equals_0 18 rfl rfl)
theorem dJ21_equals_21 : decode cJ21_equals 21 = .ok (.iconst 1, 1) := dk_4 (dk_at dksJ21_equals_0 21 rfl rfl)
theorem dJ21_equals_22 : decode cJ21_equals 22 = .ok (.goto 4, 3) := dk_167 0 4 (dk_at dksJ21_equals_1 0 rfl rfl)
theorem dJ21_equals_25 : decode cJ21_equals 25 = .ok (.iconst 0, 1) := dk_3 (dk_at dksJ21_equals_1 3 rfl rfl)
theorem dJ21_equals_26 : decode cJ21_equals 26 = .ok (.ireturn, 1) := dk_172 (dk_at dksJ21_equals_1 4 rfl rfl)
theorem dJ21_equals_27 : decode cJ21_equals 27 = .ok (.iconst 0, 1) := dk_3 (dk_at dksJ21_equals_1 5 rfl rfl)
theorem dJ21_equals_28 : decode cJ21_equals 28 = .ok (.ireturn, 1) := dk_172 (dk_at dksJ21_equals_1 6 rfl rfl)
abbrev cJ21_intValue : ByteArray := prog_40_method_27_code
def yJ21_intValue : MethodName := ⟨RJ21, "intValue", "()I"⟩
theorem dJ21_intValue_0 : decode cJ21_intValue 0 = .ok (.aload_n 0, 1) := by decide +kernel
theorem dJ21_intValue_1 : decode cJ21_intValue 1 = .ok (.getfield 205, 3) := by decide +kernel
theorem dJ21_intValue_4 : decode cJ21_intValue 4 = .ok (.ireturn, 1) := by decide +kernel
abbrev cJ21_compareTo : ByteArray := prog_40_method_63_code
def yJ21_compareTo : MethodName := ⟨RJ21, "compareTo", "(Ljava/lang/Object;)I"⟩
def dkwJ21_compareTo_0 : List UInt8 := [42, 43, 192, 0, 1, 182, 1, 28, 172]
abbrev dktJ21_compareTo_0 : List UInt8 := dkwJ21_compareTo_0 ++ []
theorem dksJ21_compareTo_0 : cJ21_compareTo.data.toList.drop 0 = dktJ21_compareTo_0 := by decide +kernel
theorem dJ21_compareTo_0 : decode cJ21_compareTo 0 = .ok (.aload_n 0, 1) := dk_42 (dk_at dksJ21_compareTo_0 0 rfl rfl)
theorem dJ21_compareTo_1 : decode cJ21_compareTo 1 = .ok (.aload_n 1, 1) := dk_43 (dk_at dksJ21_compareTo_0 1 rfl rfl)
theorem dJ21_compareTo_2 : decode cJ21_compareTo 2 = .ok (.checkcast 1, 3) := dk_192 0 1 (dk_at dksJ21_compareTo_0 2 rfl rfl)
theorem dJ21_compareTo_5 : decode cJ21_compareTo 5 = .ok (.invokevirtual 284, 3) := dk_182 1 28 (dk_at dksJ21_compareTo_0 5 rfl rfl)
theorem dJ21_compareTo_8 : decode cJ21_compareTo 8 = .ok (.ireturn, 1) := dk_172 (dk_at dksJ21_compareTo_0 8 rfl rfl)
abbrev cJ21_compareTo_2 : ByteArray := prog_40_method_39_code
def yJ21_compareTo_2 : MethodName := ⟨RJ21, "compareTo", "(Ljava/lang/Integer;)I"⟩
def dkwJ21_compareTo_2_0 : List UInt8 := [42, 180, 0, 205, 43, 180, 0, 205, 184, 1, 3, 172]
abbrev dktJ21_compareTo_2_0 : List UInt8 := dkwJ21_compareTo_2_0 ++ []
theorem dksJ21_compareTo_2_0 : cJ21_compareTo_2.data.toList.drop 0 = dktJ21_compareTo_2_0 := by decide +kernel
theorem dJ21_compareTo_2_0 : decode cJ21_compareTo_2 0 = .ok (.aload_n 0, 1) := dk_42 (dk_at dksJ21_compareTo_2_0 0 rfl rfl)
theorem dJ21_compareTo_2_1 : decode cJ21_compareTo_2 1 = .ok (.getfield 205, 3) := dk_180 0 205 (dk_at dksJ21_compareTo_2_0 1 rfl rfl)
theorem dJ21_compareTo_2_4 : decode cJ21_compareTo_2 4 = .ok (.aload_n 1, 1) := dk_43 (dk_at dksJ21_compareTo_2_0 4 rfl rfl)
theorem dJ21_compareTo_2_5 : decode cJ21_compareTo_2 5 = .ok (.getfield 205, 3) := dk_180 0 205 (dk_at dksJ21_compareTo_2_0 5 rfl rfl)
theorem dJ21_compareTo_2_8 : decode cJ21_compareTo_2 8 = .ok (.invokestatic 259, 3) := dk_184 1 3 (dk_at dksJ21_compareTo_2_0 8 rfl rfl)
theorem dJ21_compareTo_2_11 : decode cJ21_compareTo_2 11 = .ok (.ireturn, 1) := dk_172 (dk_at dksJ21_compareTo_2_0 11 rfl rfl)
abbrev cJ21_compare : ByteArray := prog_40_method_40_code
def yJ21_compare : MethodName := ⟨RJ21, "compare", "(II)I"⟩
def dkwJ21_compare_0 : List UInt8 := [26, 27, 162, 0, 7, 2, 167, 0, 13, 26, 27, 160, 0, 7, 3, 167, 0, 4, 4, 172]
abbrev dktJ21_compare_0 : List UInt8 := dkwJ21_compare_0 ++ []
theorem dksJ21_compare_0 : cJ21_compare.data.toList.drop 0 = dktJ21_compare_0 := by decide +kernel
theorem dJ21_compare_0 : decode cJ21_compare 0 = .ok (.iload_n 0, 1) := dk_26 (dk_at dksJ21_compare_0 0 rfl rfl)
theorem dJ21_compare_1 : decode cJ21_compare 1 = .ok (.iload_n 1, 1) := dk_27 (dk_at dksJ21_compare_0 1 rfl rfl)
theorem dJ21_compare_2 : decode cJ21_compare 2 = .ok (.if_icmp .ge 7, 3) := dk_162 0 7 (dk_at dksJ21_compare_0 2 rfl rfl)
theorem dJ21_compare_5 : decode cJ21_compare 5 = .ok (.iconst (-1), 1) := dk_2 (dk_at dksJ21_compare_0 5 rfl rfl)
theorem dJ21_compare_6 : decode cJ21_compare 6 = .ok (.goto 13, 3) := dk_167 0 13 (dk_at dksJ21_compare_0 6 rfl rfl)
theorem dJ21_compare_9 : decode cJ21_compare 9 = .ok (.iload_n 0, 1) := dk_26 (dk_at dksJ21_compare_0 9 rfl rfl)
theorem dJ21_compare_10 : decode cJ21_compare 10 = .ok (.iload_n 1, 1) := dk_27 (dk_at dksJ21_compare_0 10 rfl rfl)
theorem dJ21_compare_11 : decode cJ21_compare 11 = .ok (.if_icmp .ne 7, 3) := dk_160 0 7 (dk_at dksJ21_compare_0 11 rfl rfl)
theorem dJ21_compare_14 : decode cJ21_compare 14 = .ok (.iconst 0, 1) := dk_3 (dk_at dksJ21_compare_0 14 rfl rfl)
theorem dJ21_compare_15 : decode cJ21_compare 15 = .ok (.goto 4, 3) := dk_167 0 4 (dk_at dksJ21_compare_0 15 rfl rfl)
theorem dJ21_compare_18 : decode cJ21_compare 18 = .ok (.iconst 1, 1) := dk_4 (dk_at dksJ21_compare_0 18 rfl rfl)
theorem dJ21_compare_19 : decode cJ21_compare 19 = .ok (.ireturn, 1) := dk_172 (dk_at dksJ21_compare_0 19 rfl rfl)
abbrev cJ21_numberOfLeadingZeros : ByteArray := prog_40_method_47_code
def yJ21_numberOfLeadingZeros : MethodName := ⟨RJ21, "numberOfLeadingZeros", "(I)I"⟩
def dkwJ21_numberOfLeadingZeros_3 : List UInt8 := [5, 124, 59, 27, 26, 4, 124, 100, 172]
abbrev dktJ21_numberOfLeadingZeros_3 : List UInt8 := dkwJ21_numberOfLeadingZeros_3 ++ []
def dkwJ21_numberOfLeadingZeros_2 : List UInt8 := [124, 59, 26, 16, 16, 161, 0, 10, 132, 1, 252, 26, 7, 124, 59, 26, 7, 161, 0, 10, 132, 1, 254, 26]
abbrev dktJ21_numberOfLeadingZeros_2 : List UInt8 := dkwJ21_numberOfLeadingZeros_2 ++ dktJ21_numberOfLeadingZeros_3
def dkwJ21_numberOfLeadingZeros_1 : List UInt8 := [161, 0, 11, 132, 1, 240, 26, 16, 16, 124, 59, 26, 17, 1, 0, 161, 0, 11, 132, 1, 248, 26, 16, 8]
abbrev dktJ21_numberOfLeadingZeros_1 : List UInt8 := dkwJ21_numberOfLeadingZeros_1 ++ dktJ21_numberOfLeadingZeros_2
def dkwJ21_numberOfLeadingZeros_0 : List UInt8 := [26, 157, 0, 14, 26, 154, 0, 8, 16, 32, 167, 0, 4, 3, 172, 16, 31, 60, 26, 19, 1, 8]
abbrev dktJ21_numberOfLeadingZeros_0 : List UInt8 := dkwJ21_numberOfLeadingZeros_0 ++ dktJ21_numberOfLeadingZeros_1
theorem dksJ21_numberOfLeadingZeros_0 : cJ21_numberOfLeadingZeros.data.toList.drop 0 = dktJ21_numberOfLeadingZeros_0 := by decide +kernel
theorem dksJ21_numberOfLeadingZeros_1 : cJ21_numberOfLeadingZeros.data.toList.drop 22 = dktJ21_numberOfLeadingZeros_1 := dk_seg dksJ21_numberOfLeadingZeros_0 22 rfl rfl
theorem dksJ21_numberOfLeadingZeros_2 : cJ21_numberOfLeadingZeros.data.toList.drop 46 = dktJ21_numberOfLeadingZeros_2 := dk_seg dksJ21_numberOfLeadingZeros_1 24 rfl rfl
theorem dksJ21_numberOfLeadingZeros_3 : cJ21_numberOfLeadingZeros.data.toList.drop 70 = dktJ21_numberOfLeadingZeros_3 := dk_seg dksJ21_numberOfLeadingZeros_2 24 rfl rfl
theorem dJ21_numberOfLeadingZeros_0 : decode cJ21_numberOfLeadingZeros 0 = .ok (.iload_n 0, 1) := dk_26 (dk_at dksJ21_numberOfLeadingZeros_0 0 rfl rfl)
theorem dJ21_numberOfLeadingZeros_1 : decode cJ21_numberOfLeadingZeros 1 = .ok (.ifCond .gt 14, 3) := dk_157 0 14 (dk_at dksJ21_numberOfLeadingZeros_0 1 rfl rfl)
theorem dJ21_numberOfLeadingZeros_4 : decode cJ21_numberOfLeadingZeros 4 = .ok (.iload_n 0, 1) := dk_26 (dk_at dksJ21_numberOfLeadingZeros_0 4 rfl rfl)
theorem dJ21_numberOfLeadingZeros_5 : decode cJ21_numberOfLeadingZeros 5 = .ok (.ifCond .ne 8, 3) := dk_154 0 8 (dk_at dksJ21_numberOfLeadingZeros_0 5 rfl rfl)
theorem dJ21_numberOfLeadingZeros_8 : decode cJ21_numberOfLeadingZeros 8 = .ok (.bipush 32, 2) := dk_16 32 (dk_at dksJ21_numberOfLeadingZeros_0 8 rfl rfl)
theorem dJ21_numberOfLeadingZeros_10 : decode cJ21_numberOfLeadingZeros 10 = .ok (.goto 4, 3) := dk_167 0 4 (dk_at dksJ21_numberOfLeadingZeros_0 10 rfl rfl)
theorem dJ21_numberOfLeadingZeros_13 : decode cJ21_numberOfLeadingZeros 13 = .ok (.iconst 0, 1) := dk_3 (dk_at dksJ21_numberOfLeadingZeros_0 13 rfl rfl)
theorem dJ21_numberOfLeadingZeros_14 : decode cJ21_numberOfLeadingZeros 14 = .ok (.ireturn, 1) := dk_172 (dk_at dksJ21_numberOfLeadingZeros_0 14 rfl rfl)
theorem dJ21_numberOfLeadingZeros_15 : decode cJ21_numberOfLeadingZeros 15 = .ok (.bipush 31, 2) := dk_16 31 (dk_at dksJ21_numberOfLeadingZeros_0 15 rfl rfl)
theorem dJ21_numberOfLeadingZeros_17 : decode cJ21_numberOfLeadingZeros 17 = .ok (.istore_n 1, 1) := dk_60 (dk_at dksJ21_numberOfLeadingZeros_0 17 rfl rfl)
theorem dJ21_numberOfLeadingZeros_18 : decode cJ21_numberOfLeadingZeros 18 = .ok (.iload_n 0, 1) := dk_26 (dk_at dksJ21_numberOfLeadingZeros_0 18 rfl rfl)
theorem dJ21_numberOfLeadingZeros_19 : decode cJ21_numberOfLeadingZeros 19 = .ok (.ldc_w 264, 3) := dk_19 1 8 (dk_at dksJ21_numberOfLeadingZeros_0 19 rfl rfl)
theorem dJ21_numberOfLeadingZeros_22 : decode cJ21_numberOfLeadingZeros 22 = .ok (.if_icmp .lt 11, 3) := dk_161 0 11 (dk_at dksJ21_numberOfLeadingZeros_1 0 rfl rfl)
theorem dJ21_numberOfLeadingZeros_25 : decode cJ21_numberOfLeadingZeros 25 = .ok (.iinc 1 (-16), 3) := dk_132 1 240 (dk_at dksJ21_numberOfLeadingZeros_1 3 rfl rfl)
theorem dJ21_numberOfLeadingZeros_28 : decode cJ21_numberOfLeadingZeros 28 = .ok (.iload_n 0, 1) := dk_26 (dk_at dksJ21_numberOfLeadingZeros_1 6 rfl rfl)
theorem dJ21_numberOfLeadingZeros_29 : decode cJ21_numberOfLeadingZeros 29 = .ok (.bipush 16, 2) := dk_16 16 (dk_at dksJ21_numberOfLeadingZeros_1 7 rfl rfl)
theorem dJ21_numberOfLeadingZeros_31 : decode cJ21_numberOfLeadingZeros 31 = .ok (.iushr, 1) := dk_124 (dk_at dksJ21_numberOfLeadingZeros_1 9 rfl rfl)
theorem dJ21_numberOfLeadingZeros_32 : decode cJ21_numberOfLeadingZeros 32 = .ok (.istore_n 0, 1) := dk_59 (dk_at dksJ21_numberOfLeadingZeros_1 10 rfl rfl)
theorem dJ21_numberOfLeadingZeros_33 : decode cJ21_numberOfLeadingZeros 33 = .ok (.iload_n 0, 1) := dk_26 (dk_at dksJ21_numberOfLeadingZeros_1 11 rfl rfl)
theorem dJ21_numberOfLeadingZeros_34 : decode cJ21_numberOfLeadingZeros 34 = .ok (.sipush 256, 3) := dk_17 1 0 (dk_at dksJ21_numberOfLeadingZeros_1 12 rfl rfl)
theorem dJ21_numberOfLeadingZeros_37 : decode cJ21_numberOfLeadingZeros 37 = .ok (.if_icmp .lt 11, 3) := dk_161 0 11 (dk_at dksJ21_numberOfLeadingZeros_1 15 rfl rfl)
theorem dJ21_numberOfLeadingZeros_40 : decode cJ21_numberOfLeadingZeros 40 = .ok (.iinc 1 (-8), 3) := dk_132 1 248 (dk_at dksJ21_numberOfLeadingZeros_1 18 rfl rfl)
theorem dJ21_numberOfLeadingZeros_43 : decode cJ21_numberOfLeadingZeros 43 = .ok (.iload_n 0, 1) := dk_26 (dk_at dksJ21_numberOfLeadingZeros_1 21 rfl rfl)
theorem dJ21_numberOfLeadingZeros_44 : decode cJ21_numberOfLeadingZeros 44 = .ok (.bipush 8, 2) := dk_16 8 (dk_at dksJ21_numberOfLeadingZeros_1 22 rfl rfl)
theorem dJ21_numberOfLeadingZeros_46 : decode cJ21_numberOfLeadingZeros 46 = .ok (.iushr, 1) := dk_124 (dk_at dksJ21_numberOfLeadingZeros_2 0 rfl rfl)
theorem dJ21_numberOfLeadingZeros_47 : decode cJ21_numberOfLeadingZeros 47 = .ok (.istore_n 0, 1) := dk_59 (dk_at dksJ21_numberOfLeadingZeros_2 1 rfl rfl)
theorem dJ21_numberOfLeadingZeros_48 : decode cJ21_numberOfLeadingZeros 48 = .ok (.iload_n 0, 1) := dk_26 (dk_at dksJ21_numberOfLeadingZeros_2 2 rfl rfl)
theorem dJ21_numberOfLeadingZeros_49 : decode cJ21_numberOfLeadingZeros 49 = .ok (.bipush 16, 2) := dk_16 16 (dk_at dksJ21_numberOfLeadingZeros_2 3 rfl rfl)
theorem dJ21_numberOfLeadingZeros_51 : decode cJ21_numberOfLeadingZeros 51 = .ok (.if_icmp .lt 10, 3) := dk_161 0 10 (dk_at dksJ21_numberOfLeadingZeros_2 5 rfl rfl)
theorem dJ21_numberOfLeadingZeros_54 : decode cJ21_numberOfLeadingZeros 54 = .ok (.iinc 1 (-4), 3) := dk_132 1 252 (dk_at dksJ21_numberOfLeadingZeros_2 8 rfl rfl)
theorem dJ21_numberOfLeadingZeros_57 : decode cJ21_numberOfLeadingZeros 57 = .ok (.iload_n 0, 1) := dk_26 (dk_at dksJ21_numberOfLeadingZeros_2 11 rfl rfl)
theorem dJ21_numberOfLeadingZeros_58 : decode cJ21_numberOfLeadingZeros 58 = .ok (.iconst 4, 1) := dk_7 (dk_at dksJ21_numberOfLeadingZeros_2 12 rfl rfl)
theorem dJ21_numberOfLeadingZeros_59 : decode cJ21_numberOfLeadingZeros 59 = .ok (.iushr, 1) := dk_124 (dk_at dksJ21_numberOfLeadingZeros_2 13 rfl rfl)
theorem dJ21_numberOfLeadingZeros_60 : decode cJ21_numberOfLeadingZeros 60 = .ok (.istore_n 0, 1) := dk_59 (dk_at dksJ21_numberOfLeadingZeros_2 14 rfl rfl)
theorem dJ21_numberOfLeadingZeros_61 : decode cJ21_numberOfLeadingZeros 61 = .ok (.iload_n 0, 1) := dk_26 (dk_at dksJ21_numberOfLeadingZeros_2 15 rfl rfl)
theorem dJ21_numberOfLeadingZeros_62 : decode cJ21_numberOfLeadingZeros 62 = .ok (.iconst 4, 1) := dk_7 (dk_at dksJ21_numberOfLeadingZeros_2 16 rfl rfl)
theorem dJ21_numberOfLeadingZeros_63 : decode cJ21_numberOfLeadingZeros 63 = .ok (.if_icmp .lt 10, 3) := dk_161 0 10 (dk_at dksJ21_numberOfLeadingZeros_2 17 rfl rfl)
theorem dJ21_numberOfLeadingZeros_66 : decode cJ21_numberOfLeadingZeros 66 = .ok (.iinc 1 (-2), 3) := dk_132 1 254 (dk_at dksJ21_numberOfLeadingZeros_2 20 rfl rfl)
theorem dJ21_numberOfLeadingZeros_69 : decode cJ21_numberOfLeadingZeros 69 = .ok (.iload_n 0, 1) := dk_26 (dk_at dksJ21_numberOfLeadingZeros_2 23 rfl rfl)
theorem dJ21_numberOfLeadingZeros_70 : decode cJ21_numberOfLeadingZeros 70 = .ok (.iconst 2, 1) := dk_5 (dk_at dksJ21_numberOfLeadingZeros_3 0 rfl rfl)
theorem dJ21_numberOfLeadingZeros_71 : decode cJ21_numberOfLeadingZeros 71 = .ok (.iushr, 1) := dk_124 (dk_at dksJ21_numberOfLeadingZeros_3 1 rfl rfl)
theorem dJ21_numberOfLeadingZeros_72 : decode cJ21_numberOfLeadingZeros 72 = .ok (.istore_n 0, 1) := dk_59 (dk_at dksJ21_numberOfLeadingZeros_3 2 rfl rfl)
theorem dJ21_numberOfLeadingZeros_73 : decode cJ21_numberOfLeadingZeros 73 = .ok (.iload_n 1, 1) := dk_27 (dk_at dksJ21_numberOfLeadingZeros_3 3 rfl rfl)
theorem dJ21_numberOfLeadingZeros_74 : decode cJ21_numberOfLeadingZeros 74 = .ok (.iload_n 0, 1) := dk_26 (dk_at dksJ21_numberOfLeadingZeros_3 4 rfl rfl)
theorem dJ21_numberOfLeadingZeros_75 : decode cJ21_numberOfLeadingZeros 75 = .ok (.iconst 1, 1) := dk_4 (dk_at dksJ21_numberOfLeadingZeros_3 5 rfl rfl)
theorem dJ21_numberOfLeadingZeros_76 : decode cJ21_numberOfLeadingZeros 76 = .ok (.iushr, 1) := dk_124 (dk_at dksJ21_numberOfLeadingZeros_3 6 rfl rfl)
theorem dJ21_numberOfLeadingZeros_77 : decode cJ21_numberOfLeadingZeros 77 = .ok (.isub, 1) := dk_100 (dk_at dksJ21_numberOfLeadingZeros_3 7 rfl rfl)
theorem dJ21_numberOfLeadingZeros_78 : decode cJ21_numberOfLeadingZeros 78 = .ok (.ireturn, 1) := dk_172 (dk_at dksJ21_numberOfLeadingZeros_3 8 rfl rfl)
abbrev cJ21_numberOfTrailingZeros : ByteArray := prog_40_method_48_code
def yJ21_numberOfTrailingZeros : MethodName := ⟨RJ21, "numberOfTrailingZeros", "(I)I"⟩
def dkwJ21_numberOfTrailingZeros_3 : List UInt8 := [5, 124, 59, 27, 26, 4, 124, 96, 172]
abbrev dktJ21_numberOfTrailingZeros_3 : List UInt8 := dkwJ21_numberOfTrailingZeros_3 ++ []
def dkwJ21_numberOfTrailingZeros_2 : List UInt8 := [124, 59, 26, 16, 16, 164, 0, 10, 132, 1, 4, 26, 7, 124, 59, 26, 7, 164, 0, 10, 132, 1, 2, 26]
abbrev dktJ21_numberOfTrailingZeros_2 : List UInt8 := dkwJ21_numberOfTrailingZeros_2 ++ dktJ21_numberOfTrailingZeros_3
def dkwJ21_numberOfTrailingZeros_1 : List UInt8 := [164, 0, 11, 132, 1, 16, 26, 16, 16, 124, 59, 26, 17, 1, 0, 164, 0, 11, 132, 1, 8, 26, 16, 8]
abbrev dktJ21_numberOfTrailingZeros_1 : List UInt8 := dkwJ21_numberOfTrailingZeros_1 ++ dktJ21_numberOfTrailingZeros_2
def dkwJ21_numberOfTrailingZeros_0 : List UInt8 := [26, 2, 130, 26, 4, 100, 126, 59, 26, 157, 0, 8, 26, 16, 32, 126, 172, 4, 60, 26, 19, 1, 8]
abbrev dktJ21_numberOfTrailingZeros_0 : List UInt8 := dkwJ21_numberOfTrailingZeros_0 ++ dktJ21_numberOfTrailingZeros_1
theorem dksJ21_numberOfTrailingZeros_0 : cJ21_numberOfTrailingZeros.data.toList.drop 0 = dktJ21_numberOfTrailingZeros_0 := by decide +kernel
theorem dksJ21_numberOfTrailingZeros_1 : cJ21_numberOfTrailingZeros.data.toList.drop 23 = dktJ21_numberOfTrailingZeros_1 := dk_seg dksJ21_numberOfTrailingZeros_0 23 rfl rfl
theorem dksJ21_numberOfTrailingZeros_2 : cJ21_numberOfTrailingZeros.data.toList.drop 47 = dktJ21_numberOfTrailingZeros_2 := dk_seg dksJ21_numberOfTrailingZeros_1 24 rfl rfl
theorem dksJ21_numberOfTrailingZeros_3 : cJ21_numberOfTrailingZeros.data.toList.drop 71 = dktJ21_numberOfTrailingZeros_3 := dk_seg dksJ21_numberOfTrailingZeros_2 24 rfl rfl
theorem dJ21_numberOfTrailingZeros_0 : decode cJ21_numberOfTrailingZeros 0 = .ok (.iload_n 0, 1) := dk_26 (dk_at dksJ21_numberOfTrailingZeros_0 0 rfl rfl)
theorem dJ21_numberOfTrailingZeros_1 : decode cJ21_numberOfTrailingZeros 1 = .ok (.iconst (-1), 1) := dk_2 (dk_at dksJ21_numberOfTrailingZeros_0 1 rfl rfl)
theorem dJ21_numberOfTrailingZeros_2 : decode cJ21_numberOfTrailingZeros 2 = .ok (.ixor, 1) := dk_130 (dk_at dksJ21_numberOfTrailingZeros_0 2 rfl rfl)
theorem dJ21_numberOfTrailingZeros_3 : decode cJ21_numberOfTrailingZeros 3 = .ok (.iload_n 0, 1) := dk_26 (dk_at dksJ21_numberOfTrailingZeros_0 3 rfl rfl)
theorem dJ21_numberOfTrailingZeros_4 : decode cJ21_numberOfTrailingZeros 4 = .ok (.iconst 1, 1) := dk_4 (dk_at dksJ21_numberOfTrailingZeros_0 4 rfl rfl)
theorem dJ21_numberOfTrailingZeros_5 : decode cJ21_numberOfTrailingZeros 5 = .ok (.isub, 1) := dk_100 (dk_at dksJ21_numberOfTrailingZeros_0 5 rfl rfl)
theorem dJ21_numberOfTrailingZeros_6 : decode cJ21_numberOfTrailingZeros 6 = .ok (.iand, 1) := dk_126 (dk_at dksJ21_numberOfTrailingZeros_0 6 rfl rfl)
theorem dJ21_numberOfTrailingZeros_7 : decode cJ21_numberOfTrailingZeros 7 = .ok (.istore_n 0, 1) := dk_59 (dk_at dksJ21_numberOfTrailingZeros_0 7 rfl rfl)
theorem dJ21_numberOfTrailingZeros_8 : decode cJ21_numberOfTrailingZeros 8 = .ok (.iload_n 0, 1) := dk_26 (dk_at dksJ21_numberOfTrailingZeros_0 8 rfl rfl)
theorem dJ21_numberOfTrailingZeros_9 : decode cJ21_numberOfTrailingZeros 9 = .ok (.ifCond .gt 8, 3) := dk_157 0 8 (dk_at dksJ21_numberOfTrailingZeros_0 9 rfl rfl)
theorem dJ21_numberOfTrailingZeros_12 : decode cJ21_numberOfTrailingZeros 12 = .ok (.iload_n 0, 1) := dk_26 (dk_at dksJ21_numberOfTrailingZeros_0 12 rfl rfl)
theorem dJ21_numberOfTrailingZeros_13 : decode cJ21_numberOfTrailingZeros 13 = .ok (.bipush 32, 2) := dk_16 32 (dk_at dksJ21_numberOfTrailingZeros_0 13 rfl rfl)
theorem dJ21_numberOfTrailingZeros_15 : decode cJ21_numberOfTrailingZeros 15 = .ok (.iand, 1) := dk_126 (dk_at dksJ21_numberOfTrailingZeros_0 15 rfl rfl)
theorem dJ21_numberOfTrailingZeros_16 : decode cJ21_numberOfTrailingZeros 16 = .ok (.ireturn, 1) := dk_172 (dk_at dksJ21_numberOfTrailingZeros_0 16 rfl rfl)
theorem dJ21_numberOfTrailingZeros_17 : decode cJ21_numberOfTrailingZeros 17 = .ok (.iconst 1, 1) := dk_4 (dk_at dksJ21_numberOfTrailingZeros_0 17 rfl rfl)
theorem dJ21_numberOfTrailingZeros_18 : decode cJ21_numberOfTrailingZeros 18 = .ok (.istore_n 1, 1) := dk_60 (dk_at dksJ21_numberOfTrailingZeros_0 18 rfl rfl)
theorem dJ21_numberOfTrailingZeros_19 : decode cJ21_numberOfTrailingZeros 19 = .ok (.iload_n 0, 1) := dk_26 (dk_at dksJ21_numberOfTrailingZeros_0 19 rfl rfl)
theorem dJ21_numberOfTrailingZeros_20 : decode cJ21_numberOfTrailingZeros 20 = .ok (.ldc_w 264, 3) := dk_19 1 8 (dk_at dksJ21_numberOfTrailingZeros_0 20 rfl rfl)
theorem dJ21_numberOfTrailingZeros_23 : decode cJ21_numberOfTrailingZeros 23 = .ok (.if_icmp .le 11, 3) := dk_164 0 11 (dk_at dksJ21_numberOfTrailingZeros_1 0 rfl rfl)
theorem dJ21_numberOfTrailingZeros_26 : decode cJ21_numberOfTrailingZeros 26 = .ok (.iinc 1 16, 3) := dk_132 1 16 (dk_at dksJ21_numberOfTrailingZeros_1 3 rfl rfl)
theorem dJ21_numberOfTrailingZeros_29 : decode cJ21_numberOfTrailingZeros 29 = .ok (.iload_n 0, 1) := dk_26 (dk_at dksJ21_numberOfTrailingZeros_1 6 rfl rfl)
theorem dJ21_numberOfTrailingZeros_30 : decode cJ21_numberOfTrailingZeros 30 = .ok (.bipush 16, 2) := dk_16 16 (dk_at dksJ21_numberOfTrailingZeros_1 7 rfl rfl)
theorem dJ21_numberOfTrailingZeros_32 : decode cJ21_numberOfTrailingZeros 32 = .ok (.iushr, 1) := dk_124 (dk_at dksJ21_numberOfTrailingZeros_1 9 rfl rfl)
theorem dJ21_numberOfTrailingZeros_33 : decode cJ21_numberOfTrailingZeros 33 = .ok (.istore_n 0, 1) := dk_59 (dk_at dksJ21_numberOfTrailingZeros_1 10 rfl rfl)
theorem dJ21_numberOfTrailingZeros_34 : decode cJ21_numberOfTrailingZeros 34 = .ok (.iload_n 0, 1) := dk_26 (dk_at dksJ21_numberOfTrailingZeros_1 11 rfl rfl)
theorem dJ21_numberOfTrailingZeros_35 : decode cJ21_numberOfTrailingZeros 35 = .ok (.sipush 256, 3) := dk_17 1 0 (dk_at dksJ21_numberOfTrailingZeros_1 12 rfl rfl)
theorem dJ21_numberOfTrailingZeros_38 : decode cJ21_numberOfTrailingZeros 38 = .ok (.if_icmp .le 11, 3) := dk_164 0 11 (dk_at dksJ21_numberOfTrailingZeros_1 15 rfl rfl)
theorem dJ21_numberOfTrailingZeros_41 : decode cJ21_numberOfTrailingZeros 41 = .ok (.iinc 1 8, 3) := dk_132 1 8 (dk_at dksJ21_numberOfTrailingZeros_1 18 rfl rfl)
theorem dJ21_numberOfTrailingZeros_44 : decode cJ21_numberOfTrailingZeros 44 = .ok (.iload_n 0, 1) := dk_26 (dk_at dksJ21_numberOfTrailingZeros_1 21 rfl rfl)
theorem dJ21_numberOfTrailingZeros_45 : decode cJ21_numberOfTrailingZeros 45 = .ok (.bipush 8, 2) := dk_16 8 (dk_at dksJ21_numberOfTrailingZeros_1 22 rfl rfl)
theorem dJ21_numberOfTrailingZeros_47 : decode cJ21_numberOfTrailingZeros 47 = .ok (.iushr, 1) := dk_124 (dk_at dksJ21_numberOfTrailingZeros_2 0 rfl rfl)
theorem dJ21_numberOfTrailingZeros_48 : decode cJ21_numberOfTrailingZeros 48 = .ok (.istore_n 0, 1) := dk_59 (dk_at dksJ21_numberOfTrailingZeros_2 1 rfl rfl)
theorem dJ21_numberOfTrailingZeros_49 : decode cJ21_numberOfTrailingZeros 49 = .ok (.iload_n 0, 1) := dk_26 (dk_at dksJ21_numberOfTrailingZeros_2 2 rfl rfl)
theorem dJ21_numberOfTrailingZeros_50 : decode cJ21_numberOfTrailingZeros 50 = .ok (.bipush 16, 2) := dk_16 16 (dk_at dksJ21_numberOfTrailingZeros_2 3 rfl rfl)
theorem dJ21_numberOfTrailingZeros_52 : decode cJ21_numberOfTrailingZeros 52 = .ok (.if_icmp .le 10, 3) := dk_164 0 10 (dk_at dksJ21_numberOfTrailingZeros_2 5 rfl rfl)
theorem dJ21_numberOfTrailingZeros_55 : decode cJ21_numberOfTrailingZeros 55 = .ok (.iinc 1 4, 3) := dk_132 1 4 (dk_at dksJ21_numberOfTrailingZeros_2 8 rfl rfl)
theorem dJ21_numberOfTrailingZeros_58 : decode cJ21_numberOfTrailingZeros 58 = .ok (.iload_n 0, 1) := dk_26 (dk_at dksJ21_numberOfTrailingZeros_2 11 rfl rfl)
theorem dJ21_numberOfTrailingZeros_59 : decode cJ21_numberOfTrailingZeros 59 = .ok (.iconst 4, 1) := dk_7 (dk_at dksJ21_numberOfTrailingZeros_2 12 rfl rfl)
theorem dJ21_numberOfTrailingZeros_60 : decode cJ21_numberOfTrailingZeros 60 = .ok (.iushr, 1) := dk_124 (dk_at dksJ21_numberOfTrailingZeros_2 13 rfl rfl)
theorem dJ21_numberOfTrailingZeros_61 : decode cJ21_numberOfTrailingZeros 61 = .ok (.istore_n 0, 1) := dk_59 (dk_at dksJ21_numberOfTrailingZeros_2 14 rfl rfl)
theorem dJ21_numberOfTrailingZeros_62 : decode cJ21_numberOfTrailingZeros 62 = .ok (.iload_n 0, 1) := dk_26 (dk_at dksJ21_numberOfTrailingZeros_2 15 rfl rfl)
theorem dJ21_numberOfTrailingZeros_63 : decode cJ21_numberOfTrailingZeros 63 = .ok (.iconst 4, 1) := dk_7 (dk_at dksJ21_numberOfTrailingZeros_2 16 rfl rfl)
theorem dJ21_numberOfTrailingZeros_64 : decode cJ21_numberOfTrailingZeros 64 = .ok (.if_icmp .le 10, 3) := dk_164 0 10 (dk_at dksJ21_numberOfTrailingZeros_2 17 rfl rfl)
theorem dJ21_numberOfTrailingZeros_67 : decode cJ21_numberOfTrailingZeros 67 = .ok (.iinc 1 2, 3) := dk_132 1 2 (dk_at dksJ21_numberOfTrailingZeros_2 20 rfl rfl)
theorem dJ21_numberOfTrailingZeros_70 : decode cJ21_numberOfTrailingZeros 70 = .ok (.iload_n 0, 1) := dk_26 (dk_at dksJ21_numberOfTrailingZeros_2 23 rfl rfl)
theorem dJ21_numberOfTrailingZeros_71 : decode cJ21_numberOfTrailingZeros 71 = .ok (.iconst 2, 1) := dk_5 (dk_at dksJ21_numberOfTrailingZeros_3 0 rfl rfl)
theorem dJ21_numberOfTrailingZeros_72 : decode cJ21_numberOfTrailingZeros 72 = .ok (.iushr, 1) := dk_124 (dk_at dksJ21_numberOfTrailingZeros_3 1 rfl rfl)
theorem dJ21_numberOfTrailingZeros_73 : decode cJ21_numberOfTrailingZeros 73 = .ok (.istore_n 0, 1) := dk_59 (dk_at dksJ21_numberOfTrailingZeros_3 2 rfl rfl)
theorem dJ21_numberOfTrailingZeros_74 : decode cJ21_numberOfTrailingZeros 74 = .ok (.iload_n 1, 1) := dk_27 (dk_at dksJ21_numberOfTrailingZeros_3 3 rfl rfl)
theorem dJ21_numberOfTrailingZeros_75 : decode cJ21_numberOfTrailingZeros 75 = .ok (.iload_n 0, 1) := dk_26 (dk_at dksJ21_numberOfTrailingZeros_3 4 rfl rfl)
theorem dJ21_numberOfTrailingZeros_76 : decode cJ21_numberOfTrailingZeros 76 = .ok (.iconst 1, 1) := dk_4 (dk_at dksJ21_numberOfTrailingZeros_3 5 rfl rfl)
theorem dJ21_numberOfTrailingZeros_77 : decode cJ21_numberOfTrailingZeros 77 = .ok (.iushr, 1) := dk_124 (dk_at dksJ21_numberOfTrailingZeros_3 6 rfl rfl)
theorem dJ21_numberOfTrailingZeros_78 : decode cJ21_numberOfTrailingZeros 78 = .ok (.iadd, 1) := dk_96 (dk_at dksJ21_numberOfTrailingZeros_3 7 rfl rfl)
theorem dJ21_numberOfTrailingZeros_79 : decode cJ21_numberOfTrailingZeros 79 = .ok (.ireturn, 1) := dk_172 (dk_at dksJ21_numberOfTrailingZeros_3 8 rfl rfl)
abbrev cJ21_valueOf : ByteArray := prog_40_method_22_code
def yJ21_valueOf : MethodName := ⟨RJ21, "valueOf", "(I)Ljava/lang/Integer;"⟩
def dkwJ21_valueOf_1 : List UInt8 := [187, 0, 1, 89, 26, 183, 0, 199, 176]
abbrev dktJ21_valueOf_1 : List UInt8 := dkwJ21_valueOf_1 ++ []
def dkwJ21_valueOf_0 : List UInt8 := [26, 16, 128, 161, 0, 20, 26, 178, 0, 191, 163, 0, 13, 178, 0, 195, 26, 17, 0, 128, 96, 50, 176]
abbrev dktJ21_valueOf_0 : List UInt8 := dkwJ21_valueOf_0 ++ dktJ21_valueOf_1
theorem dksJ21_valueOf_0 : cJ21_valueOf.data.toList.drop 0 = dktJ21_valueOf_0 := by decide +kernel
theorem dksJ21_valueOf_1 : cJ21_valueOf.data.toList.drop 23 = dktJ21_valueOf_1 := dk_seg dksJ21_valueOf_0 23 rfl rfl
theorem dJ21_valueOf_0 : decode cJ21_valueOf 0 = .ok (.iload_n 0, 1) := dk_26 (dk_at dksJ21_valueOf_0 0 rfl rfl)
theorem dJ21_valueOf_1 : decode cJ21_valueOf 1 = .ok (.bipush (-128), 2) := dk_16 128 (dk_at dksJ21_valueOf_0 1 rfl rfl)
theorem dJ21_valueOf_3 : decode cJ21_valueOf 3 = .ok (.if_icmp .lt 20, 3) := dk_161 0 20 (dk_at dksJ21_valueOf_0 3 rfl rfl)
theorem dJ21_valueOf_6 : decode cJ21_valueOf 6 = .ok (.iload_n 0, 1) := dk_26 (dk_at dksJ21_valueOf_0 6 rfl rfl)
theorem dJ21_valueOf_7 : decode cJ21_valueOf 7 = .ok (.getstatic 191, 3) := dk_178 0 191 (dk_at dksJ21_valueOf_0 7 rfl rfl)
theorem dJ21_valueOf_10 : decode cJ21_valueOf 10 = .ok (.if_icmp .gt 13, 3) := dk_163 0 13 (dk_at dksJ21_valueOf_0 10 rfl rfl)
theorem dJ21_valueOf_13 : decode cJ21_valueOf 13 = .ok (.getstatic 195, 3) := dk_178 0 195 (dk_at dksJ21_valueOf_0 13 rfl rfl)
theorem dJ21_valueOf_16 : decode cJ21_valueOf 16 = .ok (.iload_n 0, 1) := dk_26 (dk_at dksJ21_valueOf_0 16 rfl rfl)
theorem dJ21_valueOf_17 : decode cJ21_valueOf 17 = .ok (.sipush 128, 3) := dk_17 0 128 (dk_at dksJ21_valueOf_0 17 rfl rfl)
theorem dJ21_valueOf_20 : decode cJ21_valueOf 20 = .ok (.iadd, 1) := dk_96 (dk_at dksJ21_valueOf_0 20 rfl rfl)
theorem dJ21_valueOf_21 : decode cJ21_valueOf 21 = .ok (.aaload, 1) := dk_50 (dk_at dksJ21_valueOf_0 21 rfl rfl)
theorem dJ21_valueOf_22 : decode cJ21_valueOf 22 = .ok (.areturn, 1) := dk_176 (dk_at dksJ21_valueOf_0 22 rfl rfl)
theorem dJ21_valueOf_23 : decode cJ21_valueOf 23 = .ok (.new 1, 3) := dk_187 0 1 (dk_at dksJ21_valueOf_1 0 rfl rfl)
theorem dJ21_valueOf_26 : decode cJ21_valueOf 26 = .ok (.dup, 1) := dk_89 (dk_at dksJ21_valueOf_1 3 rfl rfl)
theorem dJ21_valueOf_27 : decode cJ21_valueOf 27 = .ok (.iload_n 0, 1) := dk_26 (dk_at dksJ21_valueOf_1 4 rfl rfl)
theorem dJ21_valueOf_28 : decode cJ21_valueOf 28 = .ok (.invokespecial 199, 3) := dk_183 0 199 (dk_at dksJ21_valueOf_1 5 rfl rfl)
theorem dJ21_valueOf_31 : decode cJ21_valueOf 31 = .ok (.areturn, 1) := dk_176 (dk_at dksJ21_valueOf_1 8 rfl rfl)
abbrev cJ21_init : ByteArray := prog_40_method_23_code
def yJ21_init : MethodName := ⟨RJ21, "<init>", "(I)V"⟩
def dkwJ21_init_0 : List UInt8 := [42, 183, 0, 202, 42, 27, 181, 0, 205, 177]
abbrev dktJ21_init_0 : List UInt8 := dkwJ21_init_0 ++ []
theorem dksJ21_init_0 : cJ21_init.data.toList.drop 0 = dktJ21_init_0 := by decide +kernel
theorem dJ21_init_0 : decode cJ21_init 0 = .ok (.aload_n 0, 1) := dk_42 (dk_at dksJ21_init_0 0 rfl rfl)
theorem dJ21_init_1 : decode cJ21_init 1 = .ok (.invokespecial 202, 3) := dk_183 0 202 (dk_at dksJ21_init_0 1 rfl rfl)
theorem dJ21_init_4 : decode cJ21_init 4 = .ok (.aload_n 0, 1) := dk_42 (dk_at dksJ21_init_0 4 rfl rfl)
theorem dJ21_init_5 : decode cJ21_init 5 = .ok (.iload_n 1, 1) := dk_27 (dk_at dksJ21_init_0 5 rfl rfl)
theorem dJ21_init_6 : decode cJ21_init 6 = .ok (.putfield 205, 3) := dk_181 0 205 (dk_at dksJ21_init_0 6 rfl rfl)
theorem dJ21_init_9 : decode cJ21_init 9 = .ok (.return_, 1) := dk_177 (dk_at dksJ21_init_0 9 rfl rfl)
theorem q100 : (Jvm.Cond.initialized "java/lang/Integer") ∈ lw_all := lw_g (lw_at lw_m1 28 rfl) rfl
theorem q515 : (Jvm.Cond.selects "java/lang/Integer" ({ cls := "java/lang/Object", name := "getClass", desc := "()Ljava/lang/Class;" } : Jvm.MethodName) ({ cls := "java/lang/Object", name := "getClass", desc := "()Ljava/lang/Class;" } : Jvm.MethodName)) ∈ lw_all := lw_g (lw_at lw_m2 203 rfl) rfl
theorem q759 : (Jvm.Cond.static ({ cls := "java/lang/Integer", name := "stringSize", desc := "(I)I" } : Jvm.MethodName)) ∈ lw_all := lw_g (lw_at lw_m3 207 rfl) rfl
theorem q760 : (Jvm.Cond.code ({ cls := "java/lang/Integer", name := "stringSize", desc := "(I)I" } : Jvm.MethodName) prog_40_method_13_code (4 : Nat) (Option.some Jvm.ClassFile.FieldType.int)) ∈ lw_all := lw_g (lw_at lw_m3 208 rfl) rfl
theorem q762 : (Jvm.Cond.static ({ cls := "java/lang/Integer", name := "getChars", desc := "(II[B)I" } : Jvm.MethodName)) ∈ lw_all := lw_g (lw_at lw_m3 210 rfl) rfl
theorem q763 : (Jvm.Cond.code ({ cls := "java/lang/Integer", name := "getChars", desc := "(II[B)I" } : Jvm.MethodName) prog_40_method_12_code (7 : Nat) (Option.some Jvm.ClassFile.FieldType.int)) ∈ lw_all := lw_g (lw_at lw_m3 211 rfl) rfl
theorem q764 : (Jvm.Cond.fieldLink "java/lang/Integer" (83 : Nat) "java/lang/Integer" "DigitOnes" "[B") ∈ lw_all := lw_g (lw_at lw_m3 212 rfl) rfl
theorem q765 : (Jvm.Cond.laysStatic "java/lang/Integer" "DigitOnes" "[B") ∈ lw_tbl := lw_at lw_m3 213 rfl
theorem q766 : (Jvm.Cond.fieldLink "java/lang/Integer" (87 : Nat) "java/lang/Integer" "DigitTens" "[B") ∈ lw_all := lw_g (lw_at lw_m3 214 rfl) rfl
theorem q767 : (Jvm.Cond.laysStatic "java/lang/Integer" "DigitTens" "[B") ∈ lw_tbl := lw_at lw_m3 215 rfl
theorem q1849 : (Jvm.Cond.selects "java/lang/Integer" ({ cls := "java/lang/Object", name := "hashCode", desc := "()I" } : Jvm.MethodName) ({ cls := "java/lang/Integer", name := "hashCode", desc := "()I" } : Jvm.MethodName)) ∈ lw_all := lw_g (lw_at lw_m8 97 rfl) rfl
theorem q1850 : (Jvm.Cond.instanceMethod ({ cls := "java/lang/Integer", name := "hashCode", desc := "()I" } : Jvm.MethodName)) ∈ lw_all := lw_g (lw_at lw_m8 98 rfl) rfl
theorem q1851 : (Jvm.Cond.code ({ cls := "java/lang/Integer", name := "hashCode", desc := "()I" } : Jvm.MethodName) prog_40_method_32_code (1 : Nat) (Option.some Jvm.ClassFile.FieldType.int)) ∈ lw_all := lw_g (lw_at lw_m8 99 rfl) rfl
theorem q1852 : (Jvm.Cond.methodLink "java/lang/Integer" (208 : Nat) ({ cls := "java/lang/Integer", name := "hashCode", desc := "(I)I" } : Jvm.MethodName)) ∈ lw_all := lw_g (lw_at lw_m8 100 rfl) rfl
theorem q1853 : (Jvm.Cond.static ({ cls := "java/lang/Integer", name := "hashCode", desc := "(I)I" } : Jvm.MethodName)) ∈ lw_all := lw_g (lw_at lw_m8 101 rfl) rfl
theorem q1854 : (Jvm.Cond.code ({ cls := "java/lang/Integer", name := "hashCode", desc := "(I)I" } : Jvm.MethodName) prog_40_method_33_code (1 : Nat) (Option.some Jvm.ClassFile.FieldType.int)) ∈ lw_all := lw_g (lw_at lw_m8 102 rfl) rfl
theorem q1947 : (Jvm.Cond.selects "java/lang/Integer" ({ cls := "java/lang/Object", name := "equals", desc := "(Ljava/lang/Object;)Z" } : Jvm.MethodName) ({ cls := "java/lang/Integer", name := "equals", desc := "(Ljava/lang/Object;)Z" } : Jvm.MethodName)) ∈ lw_all := lw_g (lw_at lw_m8 195 rfl) rfl
theorem q1948 : (Jvm.Cond.instanceMethod ({ cls := "java/lang/Integer", name := "equals", desc := "(Ljava/lang/Object;)Z" } : Jvm.MethodName)) ∈ lw_all := lw_g (lw_at lw_m8 196 rfl) rfl
theorem q1949 : (Jvm.Cond.code ({ cls := "java/lang/Integer", name := "equals", desc := "(Ljava/lang/Object;)Z" } : Jvm.MethodName) prog_40_method_34_code (2 : Nat) (Option.some Jvm.ClassFile.FieldType.boolean)) ∈ lw_all := lw_g (lw_at lw_m8 197 rfl) rfl
theorem q1950 : (Jvm.Cond.classLink "java/lang/Integer" (1 : Nat) "java/lang/Integer") ∈ lw_all := lw_g (lw_at lw_m8 198 rfl) rfl
theorem q1951 : (Jvm.Cond.methodLink "java/lang/Integer" (211 : Nat) ({ cls := "java/lang/Integer", name := "intValue", desc := "()I" } : Jvm.MethodName)) ∈ lw_all := lw_g (lw_at lw_m8 199 rfl) rfl
theorem q1952 : (Jvm.Cond.instanceMethod ({ cls := "java/lang/Integer", name := "intValue", desc := "()I" } : Jvm.MethodName)) ∈ lw_all := lw_g (lw_at lw_m8 200 rfl) rfl
theorem q1953 : (Jvm.Cond.selects "java/lang/Integer" ({ cls := "java/lang/Integer", name := "intValue", desc := "()I" } : Jvm.MethodName) ({ cls := "java/lang/Integer", name := "intValue", desc := "()I" } : Jvm.MethodName)) ∈ lw_all := lw_g (lw_at lw_m8 201 rfl) rfl
theorem q1954 : (Jvm.Cond.code ({ cls := "java/lang/Integer", name := "intValue", desc := "()I" } : Jvm.MethodName) prog_40_method_27_code (1 : Nat) (Option.some Jvm.ClassFile.FieldType.int)) ∈ lw_all := lw_g (lw_at lw_m8 202 rfl) rfl
theorem q2027 : (Jvm.Cond.castable "java/lang/Integer" "java/lang/Comparable") ∈ lw_tbl := lw_at lw_m9 35 rfl
theorem q2028 : (Jvm.Cond.selects "java/lang/Integer" ({ cls := "java/lang/Comparable", name := "compareTo", desc := "(Ljava/lang/Object;)I" } : Jvm.MethodName) ({ cls := "java/lang/Integer", name := "compareTo", desc := "(Ljava/lang/Object;)I" } : Jvm.MethodName)) ∈ lw_all := lw_g (lw_at lw_m9 36 rfl) rfl
theorem q2029 : (Jvm.Cond.unhidden "java/lang/Integer" "compareTo" "(Ljava/lang/Object;)I") ∈ lw_tbl := lw_at lw_m9 37 rfl
theorem q2030 : (Jvm.Cond.instanceMethod ({ cls := "java/lang/Integer", name := "compareTo", desc := "(Ljava/lang/Object;)I" } : Jvm.MethodName)) ∈ lw_all := lw_g (lw_at lw_m9 38 rfl) rfl
theorem q2031 : (Jvm.Cond.publicMethod ({ cls := "java/lang/Integer", name := "compareTo", desc := "(Ljava/lang/Object;)I" } : Jvm.MethodName)) ∈ lw_tbl := lw_at lw_m9 39 rfl
theorem q2032 : (Jvm.Cond.code ({ cls := "java/lang/Integer", name := "compareTo", desc := "(Ljava/lang/Object;)I" } : Jvm.MethodName) prog_40_method_63_code (2 : Nat) (Option.some Jvm.ClassFile.FieldType.int)) ∈ lw_all := lw_g (lw_at lw_m9 40 rfl) rfl
theorem q2033 : (Jvm.Cond.methodLink "java/lang/Integer" (284 : Nat) ({ cls := "java/lang/Integer", name := "compareTo", desc := "(Ljava/lang/Integer;)I" } : Jvm.MethodName)) ∈ lw_all := lw_g (lw_at lw_m9 41 rfl) rfl
theorem q2034 : (Jvm.Cond.instanceMethod ({ cls := "java/lang/Integer", name := "compareTo", desc := "(Ljava/lang/Integer;)I" } : Jvm.MethodName)) ∈ lw_all := lw_g (lw_at lw_m9 42 rfl) rfl
theorem q2035 : (Jvm.Cond.selects "java/lang/Integer" ({ cls := "java/lang/Integer", name := "compareTo", desc := "(Ljava/lang/Integer;)I" } : Jvm.MethodName) ({ cls := "java/lang/Integer", name := "compareTo", desc := "(Ljava/lang/Integer;)I" } : Jvm.MethodName)) ∈ lw_all := lw_g (lw_at lw_m9 43 rfl) rfl
theorem q2036 : (Jvm.Cond.code ({ cls := "java/lang/Integer", name := "compareTo", desc := "(Ljava/lang/Integer;)I" } : Jvm.MethodName) prog_40_method_39_code (2 : Nat) (Option.some Jvm.ClassFile.FieldType.int)) ∈ lw_all := lw_g (lw_at lw_m9 44 rfl) rfl
theorem q2037 : (Jvm.Cond.methodLink "java/lang/Integer" (259 : Nat) ({ cls := "java/lang/Integer", name := "compare", desc := "(II)I" } : Jvm.MethodName)) ∈ lw_all := lw_g (lw_at lw_m9 45 rfl) rfl
theorem q2038 : (Jvm.Cond.static ({ cls := "java/lang/Integer", name := "compare", desc := "(II)I" } : Jvm.MethodName)) ∈ lw_all := lw_g (lw_at lw_m9 46 rfl) rfl
theorem q2039 : (Jvm.Cond.code ({ cls := "java/lang/Integer", name := "compare", desc := "(II)I" } : Jvm.MethodName) prog_40_method_40_code (2 : Nat) (Option.some Jvm.ClassFile.FieldType.int)) ∈ lw_all := lw_g (lw_at lw_m9 47 rfl) rfl
theorem q2129 : (Jvm.Cond.static ({ cls := "java/lang/Integer", name := "numberOfLeadingZeros", desc := "(I)I" } : Jvm.MethodName)) ∈ lw_all := lw_g (lw_at lw_m9 137 rfl) rfl
theorem q2130 : (Jvm.Cond.code ({ cls := "java/lang/Integer", name := "numberOfLeadingZeros", desc := "(I)I" } : Jvm.MethodName) prog_40_method_47_code (2 : Nat) (Option.some Jvm.ClassFile.FieldType.int)) ∈ lw_all := lw_g (lw_at lw_m9 138 rfl) rfl
theorem q2131 : (Jvm.Cond.constant "java/lang/Integer" (264 : Nat) (65536 : Int32)) ∈ lw_all := lw_g (lw_at lw_m9 139 rfl) rfl
theorem q2138 : (Jvm.Cond.static ({ cls := "java/lang/Integer", name := "numberOfTrailingZeros", desc := "(I)I" } : Jvm.MethodName)) ∈ lw_all := lw_g (lw_at lw_m9 146 rfl) rfl
theorem q2139 : (Jvm.Cond.code ({ cls := "java/lang/Integer", name := "numberOfTrailingZeros", desc := "(I)I" } : Jvm.MethodName) prog_40_method_48_code (2 : Nat) (Option.some Jvm.ClassFile.FieldType.int)) ∈ lw_all := lw_g (lw_at lw_m9 147 rfl) rfl
theorem q2221 : (Jvm.Cond.static ({ cls := "java/lang/Integer", name := "valueOf", desc := "(I)Ljava/lang/Integer;" } : Jvm.MethodName)) ∈ lw_all := lw_g (lw_at lw_m9 229 rfl) rfl
theorem q2222 : (Jvm.Cond.code ({ cls := "java/lang/Integer", name := "valueOf", desc := "(I)Ljava/lang/Integer;" } : Jvm.MethodName) prog_40_method_22_code (1 : Nat) (Option.some (Jvm.ClassFile.FieldType.object "java/lang/Integer"))) ∈ lw_all := lw_g (lw_at lw_m9 230 rfl) rfl
theorem q2223 : (Jvm.Cond.fieldLink "java/lang/Integer" (191 : Nat) "java/lang/Integer$IntegerCache" "high" "I") ∈ lw_all := lw_g (lw_at lw_m9 231 rfl) rfl
theorem q2225 : (Jvm.Cond.fieldLink "java/lang/Integer" (195 : Nat) "java/lang/Integer$IntegerCache" "cache" "[Ljava/lang/Integer;") ∈ lw_all := lw_g (lw_at lw_m9 233 rfl) rfl
theorem q2227 : (Jvm.Cond.instantiable "java/lang/Integer" (1 : Nat)) ∈ lw_all := lw_g (lw_at lw_m9 235 rfl) rfl
theorem q2228 : (Jvm.Cond.methodLink "java/lang/Integer" (199 : Nat) ({ cls := "java/lang/Integer", name := "<init>", desc := "(I)V" } : Jvm.MethodName)) ∈ lw_all := lw_g (lw_at lw_m9 236 rfl) rfl
theorem q2229 : (Jvm.Cond.instanceMethod ({ cls := "java/lang/Integer", name := "<init>", desc := "(I)V" } : Jvm.MethodName)) ∈ lw_all := lw_g (lw_at lw_m9 237 rfl) rfl
theorem q2230 : (Jvm.Cond.code ({ cls := "java/lang/Integer", name := "<init>", desc := "(I)V" } : Jvm.MethodName) prog_40_method_23_code (2 : Nat) (Option.none : Option Jvm.ClassFile.FieldType)) ∈ lw_all := lw_g (lw_at lw_m9 238 rfl) rfl
theorem q2231 : (Jvm.Cond.methodLink "java/lang/Integer" (202 : Nat) ({ cls := "java/lang/Number", name := "<init>", desc := "()V" } : Jvm.MethodName)) ∈ lw_all := lw_g (lw_at lw_m9 239 rfl) rfl
theorem q2235 : (Jvm.Cond.fieldLink "java/lang/Integer" (205 : Nat) "java/lang/Integer" "value" "I") ∈ lw_all := lw_g (lw_at lw_m10 3 rfl) rfl
theorem q2236 : (Jvm.Cond.laysFinal "java/lang/Integer" "java/lang/Integer" "value" "I") ∈ lw_all := lw_g (lw_at lw_m10 4 rfl) rfl
theorem q2237 : (Jvm.Cond.soleField "java/lang/Integer" "value") ∈ lw_all := lw_g (lw_at lw_m10 5 rfl) rfl
theorem q2238 : (Jvm.Cond.superclass "java/lang/Integer" "java/lang/Number") ∈ lw_all := lw_g (lw_at lw_m10 6 rfl) rfl
theorem q3186 : (Jvm.Cond.castable "java/lang/Integer" "java/lang/Object") ∈ lw_tbl := lw_at lw_m13 234 rfl
theorem in_J21 : ∀ w ∈ wsJ210, w ∈ lw_all := lw_in wsJ210 [2236] (by decide +kernel) (by decide +kernel)
/-! java/lang/IndexOutOfBoundsException -/
set_option maxRecDepth 100000
def RJ22 : String := "java/lang/IndexOutOfBoundsException"
def TJ22 : u_T := fun k => match k with
  | 0 => ("java/lang/Throwable", "cause", "Ljava/lang/Throwable;", false)
  | 1 => ("java/lang/Throwable", "stackTrace", "[Ljava/lang/StackTraceElement;", false)
  | 2 => ("java/lang/Throwable", "suppressedExceptions", "Ljava/util/List;", false)
  | 3 => ("java/lang/Throwable", "detailMessage", "Ljava/lang/String;", false)
  | 4 => ("java/lang/Throwable", "backtrace", "Ljava/lang/Object;", false)
  | _ => ("java/lang/Throwable", "depth", "I", false)
def tyJ22 : Nat → FieldType := fun k => match k with
  | 0 => .object "java/lang/Throwable"
  | 1 => .array (.object "java/lang/StackTraceElement")
  | 2 => .object "java/util/List"
  | 3 => .object "java/lang/String"
  | 4 => .object "java/lang/Object"
  | _ => .int
abbrev wsJ220 : List Cond := u_ws RJ22 TJ22 6
theorem nmJ22 : ∀ a, a < 6 → ∀ b, b < 6 → a ≠ b → (TJ22 a).2.1 ≠ (TJ22 b).2.1 := by decide +kernel
theorem tyJ22_ok : ∀ k, k < 6 → parseFieldDescriptor (TJ22 k).2.2.1 = some (tyJ22 k) := by decide +kernel
abbrev cJ22_init : ByteArray := prog_39_method_2_code
def yJ22_init : MethodName := ⟨RJ22, "<init>", "(Ljava/lang/String;)V"⟩
def dkwJ22_init_0 : List UInt8 := [42, 43, 183, 0, 7, 177]
abbrev dktJ22_init_0 : List UInt8 := dkwJ22_init_0 ++ []
theorem dksJ22_init_0 : cJ22_init.data.toList.drop 0 = dktJ22_init_0 := by decide +kernel
theorem dJ22_init_0 : decode cJ22_init 0 = .ok (.aload_n 0, 1) := dk_42 (dk_at dksJ22_init_0 0 rfl rfl)
theorem dJ22_init_1 : decode cJ22_init 1 = .ok (.aload_n 1, 1) := dk_43 (dk_at dksJ22_init_0 1 rfl rfl)
theorem dJ22_init_2 : decode cJ22_init 2 = .ok (.invokespecial 7, 3) := dk_183 0 7 (dk_at dksJ22_init_0 2 rfl rfl)
theorem dJ22_init_5 : decode cJ22_init 5 = .ok (.return_, 1) := dk_177 (dk_at dksJ22_init_0 5 rfl rfl)
abbrev cJ22_init_2 : ByteArray := prog_39_method_1_code
def yJ22_init_2 : MethodName := ⟨RJ22, "<init>", "()V"⟩
theorem dJ22_init_2_0 : decode cJ22_init_2 0 = .ok (.aload_n 0, 1) := by decide +kernel
theorem dJ22_init_2_1 : decode cJ22_init_2 1 = .ok (.invokespecial 1, 3) := by decide +kernel
theorem dJ22_init_2_4 : decode cJ22_init_2 4 = .ok (.return_, 1) := by decide +kernel
theorem q101 : (Jvm.Cond.initialized "java/lang/IndexOutOfBoundsException") ∈ lw_all := lw_g (lw_at lw_m1 29 rfl) rfl
theorem q388 : (Jvm.Cond.selects "java/lang/IndexOutOfBoundsException" ({ cls := "java/lang/Throwable", name := "fillInStackTrace", desc := "()Ljava/lang/Throwable;" } : Jvm.MethodName) ({ cls := "java/lang/Throwable", name := "fillInStackTrace", desc := "()Ljava/lang/Throwable;" } : Jvm.MethodName)) ∈ lw_all := lw_g (lw_at lw_m2 76 rfl) rfl
theorem q514 : (Jvm.Cond.selects "java/lang/IndexOutOfBoundsException" ({ cls := "java/lang/Object", name := "getClass", desc := "()Ljava/lang/Class;" } : Jvm.MethodName) ({ cls := "java/lang/Object", name := "getClass", desc := "()Ljava/lang/Class;" } : Jvm.MethodName)) ∈ lw_all := lw_g (lw_at lw_m2 202 rfl) rfl
theorem q893 : (Jvm.Cond.instanceMethod ({ cls := "java/lang/IndexOutOfBoundsException", name := "<init>", desc := "(Ljava/lang/String;)V" } : Jvm.MethodName)) ∈ lw_all := lw_g (lw_at lw_m4 101 rfl) rfl
theorem q894 : (Jvm.Cond.code ({ cls := "java/lang/IndexOutOfBoundsException", name := "<init>", desc := "(Ljava/lang/String;)V" } : Jvm.MethodName) prog_39_method_2_code (2 : Nat) (Option.none : Option Jvm.ClassFile.FieldType)) ∈ lw_all := lw_g (lw_at lw_m4 102 rfl) rfl
theorem q895 : (Jvm.Cond.methodLink "java/lang/IndexOutOfBoundsException" (7 : Nat) ({ cls := "java/lang/RuntimeException", name := "<init>", desc := "(Ljava/lang/String;)V" } : Jvm.MethodName)) ∈ lw_all := lw_g (lw_at lw_m4 103 rfl) rfl
theorem q918 : (Jvm.Cond.declares ({ cls := "java/lang/IndexOutOfBoundsException", name := "<init>", desc := "()V" } : Jvm.MethodName)) ∈ lw_tbl := lw_at lw_m4 126 rfl
theorem q919 : (Jvm.Cond.declares ({ cls := "java/lang/IndexOutOfBoundsException", name := "<init>", desc := "(Ljava/lang/String;)V" } : Jvm.MethodName)) ∈ lw_tbl := lw_at lw_m4 127 rfl
theorem q1284 : (Jvm.Cond.instantiable "java/lang/IndexOutOfBoundsException" (6 : Nat)) ∈ lw_all := lw_g (lw_at lw_m6 12 rfl) rfl
theorem q1285 : (Jvm.Cond.castable "java/lang/IndexOutOfBoundsException" "java/lang/IndexOutOfBoundsException") ∈ lw_tbl := lw_at lw_m6 13 rfl
theorem q1286 : (Jvm.Cond.selects "java/lang/IndexOutOfBoundsException" ({ cls := "java/lang/Throwable", name := "fillInStackTrace", desc := "(I)Ljava/lang/Throwable;" } : Jvm.MethodName) ({ cls := "java/lang/Throwable", name := "fillInStackTrace", desc := "(I)Ljava/lang/Throwable;" } : Jvm.MethodName)) ∈ lw_all := lw_g (lw_at lw_m6 14 rfl) rfl
theorem q1287 : (Jvm.Cond.lays "java/lang/IndexOutOfBoundsException" "java/lang/Throwable" "cause" "Ljava/lang/Throwable;") ∈ lw_all := lw_g (lw_at lw_m6 15 rfl) rfl
theorem q1288 : (Jvm.Cond.lays "java/lang/IndexOutOfBoundsException" "java/lang/Throwable" "stackTrace" "[Ljava/lang/StackTraceElement;") ∈ lw_all := lw_g (lw_at lw_m6 16 rfl) rfl
theorem q1289 : (Jvm.Cond.lays "java/lang/IndexOutOfBoundsException" "java/lang/Throwable" "suppressedExceptions" "Ljava/util/List;") ∈ lw_all := lw_g (lw_at lw_m6 17 rfl) rfl
theorem q1290 : (Jvm.Cond.lays "java/lang/IndexOutOfBoundsException" "java/lang/Throwable" "detailMessage" "Ljava/lang/String;") ∈ lw_all := lw_g (lw_at lw_m6 18 rfl) rfl
theorem q1291 : (Jvm.Cond.lays "java/lang/IndexOutOfBoundsException" "java/lang/Throwable" "backtrace" "Ljava/lang/Object;") ∈ lw_all := lw_g (lw_at lw_m6 19 rfl) rfl
theorem q1293 : (Jvm.Cond.instanceMethod ({ cls := "java/lang/IndexOutOfBoundsException", name := "<init>", desc := "()V" } : Jvm.MethodName)) ∈ lw_all := lw_g (lw_at lw_m6 21 rfl) rfl
theorem q1294 : (Jvm.Cond.code ({ cls := "java/lang/IndexOutOfBoundsException", name := "<init>", desc := "()V" } : Jvm.MethodName) prog_39_method_1_code (1 : Nat) (Option.none : Option Jvm.ClassFile.FieldType)) ∈ lw_all := lw_g (lw_at lw_m6 22 rfl) rfl
theorem q1295 : (Jvm.Cond.methodLink "java/lang/IndexOutOfBoundsException" (1 : Nat) ({ cls := "java/lang/RuntimeException", name := "<init>", desc := "()V" } : Jvm.MethodName)) ∈ lw_all := lw_g (lw_at lw_m6 23 rfl) rfl
theorem q1296 : (Jvm.Cond.lays "java/lang/IndexOutOfBoundsException" "java/lang/Throwable" "depth" "I") ∈ lw_all := lw_g (lw_at lw_m6 24 rfl) rfl
theorem q1297 : (Jvm.Cond.superclass "java/lang/IndexOutOfBoundsException" "java/lang/RuntimeException") ∈ lw_all := lw_g (lw_at lw_m6 25 rfl) rfl
theorem q1848 : (Jvm.Cond.selects "java/lang/IndexOutOfBoundsException" ({ cls := "java/lang/Object", name := "hashCode", desc := "()I" } : Jvm.MethodName) ({ cls := "java/lang/Object", name := "hashCode", desc := "()I" } : Jvm.MethodName)) ∈ lw_all := lw_g (lw_at lw_m8 96 rfl) rfl
theorem q1946 : (Jvm.Cond.selects "java/lang/IndexOutOfBoundsException" ({ cls := "java/lang/Object", name := "equals", desc := "(Ljava/lang/Object;)Z" } : Jvm.MethodName) ({ cls := "java/lang/Object", name := "equals", desc := "(Ljava/lang/Object;)Z" } : Jvm.MethodName)) ∈ lw_all := lw_g (lw_at lw_m8 194 rfl) rfl
theorem q3171 : (Jvm.Cond.castable "java/lang/IndexOutOfBoundsException" "java/lang/Object") ∈ lw_tbl := lw_at lw_m13 219 rfl
theorem in_J22 : ∀ w ∈ wsJ220, w ∈ lw_all := lw_in wsJ220 [1287, 1288, 1289, 1290, 1291, 1296] (by decide +kernel) (by decide +kernel)
/-! java/lang/StringIndexOutOfBoundsException -/
set_option maxRecDepth 100000
def RJ23 : String := "java/lang/StringIndexOutOfBoundsException"
def TJ23 : u_T := fun k => match k with
  | 0 => ("java/lang/Throwable", "backtrace", "Ljava/lang/Object;", false)
  | 1 => ("java/lang/Throwable", "detailMessage", "Ljava/lang/String;", false)
  | 2 => ("java/lang/Throwable", "cause", "Ljava/lang/Throwable;", false)
  | 3 => ("java/lang/Throwable", "stackTrace", "[Ljava/lang/StackTraceElement;", false)
  | 4 => ("java/lang/Throwable", "depth", "I", false)
  | _ => ("java/lang/Throwable", "suppressedExceptions", "Ljava/util/List;", false)
def tyJ23 : Nat → FieldType := fun k => match k with
  | 0 => .object "java/lang/Object"
  | 1 => .object "java/lang/String"
  | 2 => .object "java/lang/Throwable"
  | 3 => .array (.object "java/lang/StackTraceElement")
  | 4 => .int
  | _ => .object "java/util/List"
abbrev wsJ230 : List Cond := u_ws RJ23 TJ23 6
theorem nmJ23 : ∀ a, a < 6 → ∀ b, b < 6 → a ≠ b → (TJ23 a).2.1 ≠ (TJ23 b).2.1 := by decide +kernel
theorem tyJ23_ok : ∀ k, k < 6 → parseFieldDescriptor (TJ23 k).2.2.1 = some (tyJ23 k) := by decide +kernel
abbrev cJ23_init : ByteArray := prog_49_method_3_code
def yJ23_init : MethodName := ⟨RJ23, "<init>", "(I)V"⟩
def dkwJ23_init_0 : List UInt8 := [42, 187, 0, 10, 89, 183, 0, 12, 18, 13, 182, 0, 15, 27, 182, 0, 19, 182, 0, 22, 183, 0, 7, 177]
abbrev dktJ23_init_0 : List UInt8 := dkwJ23_init_0 ++ []
theorem dksJ23_init_0 : cJ23_init.data.toList.drop 0 = dktJ23_init_0 := by decide +kernel
theorem dJ23_init_0 : decode cJ23_init 0 = .ok (.aload_n 0, 1) := dk_42 (dk_at dksJ23_init_0 0 rfl rfl)
theorem dJ23_init_1 : decode cJ23_init 1 = .ok (.new 10, 3) := dk_187 0 10 (dk_at dksJ23_init_0 1 rfl rfl)
theorem dJ23_init_4 : decode cJ23_init 4 = .ok (.dup, 1) := dk_89 (dk_at dksJ23_init_0 4 rfl rfl)
theorem dJ23_init_5 : decode cJ23_init 5 = .ok (.invokespecial 12, 3) := dk_183 0 12 (dk_at dksJ23_init_0 5 rfl rfl)
theorem dJ23_init_8 : decode cJ23_init 8 = .ok (.ldc 13, 2) := dk_18 13 (dk_at dksJ23_init_0 8 rfl rfl)
theorem dJ23_init_10 : decode cJ23_init 10 = .ok (.invokevirtual 15, 3) := dk_182 0 15 (dk_at dksJ23_init_0 10 rfl rfl)
theorem dJ23_init_13 : decode cJ23_init 13 = .ok (.iload_n 1, 1) := dk_27 (dk_at dksJ23_init_0 13 rfl rfl)
theorem dJ23_init_14 : decode cJ23_init 14 = .ok (.invokevirtual 19, 3) := dk_182 0 19 (dk_at dksJ23_init_0 14 rfl rfl)
theorem dJ23_init_17 : decode cJ23_init 17 = .ok (.invokevirtual 22, 3) := dk_182 0 22 (dk_at dksJ23_init_0 17 rfl rfl)
theorem dJ23_init_20 : decode cJ23_init 20 = .ok (.invokespecial 7, 3) := dk_183 0 7 (dk_at dksJ23_init_0 20 rfl rfl)
theorem dJ23_init_23 : decode cJ23_init 23 = .ok (.return_, 1) := dk_177 (dk_at dksJ23_init_0 23 rfl rfl)
theorem q102 : (Jvm.Cond.initialized "java/lang/StringIndexOutOfBoundsException") ∈ lw_all := lw_g (lw_at lw_m1 30 rfl) rfl
theorem q389 : (Jvm.Cond.selects "java/lang/StringIndexOutOfBoundsException" ({ cls := "java/lang/Throwable", name := "fillInStackTrace", desc := "()Ljava/lang/Throwable;" } : Jvm.MethodName) ({ cls := "java/lang/Throwable", name := "fillInStackTrace", desc := "()Ljava/lang/Throwable;" } : Jvm.MethodName)) ∈ lw_all := lw_g (lw_at lw_m2 77 rfl) rfl
theorem q518 : (Jvm.Cond.selects "java/lang/StringIndexOutOfBoundsException" ({ cls := "java/lang/Object", name := "getClass", desc := "()Ljava/lang/Class;" } : Jvm.MethodName) ({ cls := "java/lang/Object", name := "getClass", desc := "()Ljava/lang/Class;" } : Jvm.MethodName)) ∈ lw_all := lw_g (lw_at lw_m2 206 rfl) rfl
theorem q882 : (Jvm.Cond.instantiable "java/lang/StringIndexOutOfBoundsException" (6 : Nat)) ∈ lw_all := lw_g (lw_at lw_m4 90 rfl) rfl
theorem q884 : (Jvm.Cond.instanceMethod ({ cls := "java/lang/StringIndexOutOfBoundsException", name := "<init>", desc := "(I)V" } : Jvm.MethodName)) ∈ lw_all := lw_g (lw_at lw_m4 92 rfl) rfl
theorem q885 : (Jvm.Cond.code ({ cls := "java/lang/StringIndexOutOfBoundsException", name := "<init>", desc := "(I)V" } : Jvm.MethodName) prog_49_method_3_code (2 : Nat) (Option.none : Option Jvm.ClassFile.FieldType)) ∈ lw_all := lw_g (lw_at lw_m4 93 rfl) rfl
theorem q886 : (Jvm.Cond.classLink "java/lang/StringIndexOutOfBoundsException" (10 : Nat) "java/lang/StringBuilder") ∈ lw_all := lw_g (lw_at lw_m4 94 rfl) rfl
theorem q887 : (Jvm.Cond.methodLink "java/lang/StringIndexOutOfBoundsException" (12 : Nat) ({ cls := "java/lang/StringBuilder", name := "<init>", desc := "()V" } : Jvm.MethodName)) ∈ lw_all := lw_g (lw_at lw_m4 95 rfl) rfl
theorem q888 : (Jvm.Cond.stringRef "java/lang/StringIndexOutOfBoundsException" (13 : Nat) "String index out of range: ") ∈ lw_tbl := lw_at lw_m4 96 rfl
theorem q889 : (Jvm.Cond.methodLink "java/lang/StringIndexOutOfBoundsException" (15 : Nat) ({ cls := "java/lang/StringBuilder", name := "append", desc := "(Ljava/lang/String;)Ljava/lang/StringBuilder;" } : Jvm.MethodName)) ∈ lw_all := lw_g (lw_at lw_m4 97 rfl) rfl
theorem q890 : (Jvm.Cond.methodLink "java/lang/StringIndexOutOfBoundsException" (19 : Nat) ({ cls := "java/lang/StringBuilder", name := "append", desc := "(I)Ljava/lang/StringBuilder;" } : Jvm.MethodName)) ∈ lw_all := lw_g (lw_at lw_m4 98 rfl) rfl
theorem q891 : (Jvm.Cond.methodLink "java/lang/StringIndexOutOfBoundsException" (22 : Nat) ({ cls := "java/lang/StringBuilder", name := "toString", desc := "()Ljava/lang/String;" } : Jvm.MethodName)) ∈ lw_all := lw_g (lw_at lw_m4 99 rfl) rfl
theorem q892 : (Jvm.Cond.methodLink "java/lang/StringIndexOutOfBoundsException" (7 : Nat) ({ cls := "java/lang/IndexOutOfBoundsException", name := "<init>", desc := "(Ljava/lang/String;)V" } : Jvm.MethodName)) ∈ lw_all := lw_g (lw_at lw_m4 100 rfl) rfl
theorem q896 : (Jvm.Cond.lays "java/lang/StringIndexOutOfBoundsException" "java/lang/Throwable" "backtrace" "Ljava/lang/Object;") ∈ lw_all := lw_g (lw_at lw_m4 104 rfl) rfl
theorem q897 : (Jvm.Cond.lays "java/lang/StringIndexOutOfBoundsException" "java/lang/Throwable" "detailMessage" "Ljava/lang/String;") ∈ lw_all := lw_g (lw_at lw_m4 105 rfl) rfl
theorem q898 : (Jvm.Cond.lays "java/lang/StringIndexOutOfBoundsException" "java/lang/Throwable" "cause" "Ljava/lang/Throwable;") ∈ lw_all := lw_g (lw_at lw_m4 106 rfl) rfl
theorem q899 : (Jvm.Cond.lays "java/lang/StringIndexOutOfBoundsException" "java/lang/Throwable" "stackTrace" "[Ljava/lang/StackTraceElement;") ∈ lw_all := lw_g (lw_at lw_m4 107 rfl) rfl
theorem q900 : (Jvm.Cond.lays "java/lang/StringIndexOutOfBoundsException" "java/lang/Throwable" "depth" "I") ∈ lw_all := lw_g (lw_at lw_m4 108 rfl) rfl
theorem q901 : (Jvm.Cond.lays "java/lang/StringIndexOutOfBoundsException" "java/lang/Throwable" "suppressedExceptions" "Ljava/util/List;") ∈ lw_all := lw_g (lw_at lw_m4 109 rfl) rfl
theorem q902 : (Jvm.Cond.superclass "java/lang/StringIndexOutOfBoundsException" "java/lang/IndexOutOfBoundsException") ∈ lw_all := lw_g (lw_at lw_m4 110 rfl) rfl
theorem q1912 : (Jvm.Cond.selects "java/lang/StringIndexOutOfBoundsException" ({ cls := "java/lang/Object", name := "hashCode", desc := "()I" } : Jvm.MethodName) ({ cls := "java/lang/Object", name := "hashCode", desc := "()I" } : Jvm.MethodName)) ∈ lw_all := lw_g (lw_at lw_m8 160 rfl) rfl
theorem q1957 : (Jvm.Cond.selects "java/lang/StringIndexOutOfBoundsException" ({ cls := "java/lang/Object", name := "equals", desc := "(Ljava/lang/Object;)Z" } : Jvm.MethodName) ({ cls := "java/lang/Object", name := "equals", desc := "(Ljava/lang/Object;)Z" } : Jvm.MethodName)) ∈ lw_all := lw_g (lw_at lw_m8 205 rfl) rfl
theorem q3142 : (Jvm.Cond.castable "java/lang/StringIndexOutOfBoundsException" "java/lang/IndexOutOfBoundsException") ∈ lw_tbl := lw_at lw_m13 190 rfl
theorem q3165 : (Jvm.Cond.castable "java/lang/StringIndexOutOfBoundsException" "java/lang/Object") ∈ lw_tbl := lw_at lw_m13 213 rfl
theorem in_J23 : ∀ w ∈ wsJ230, w ∈ lw_all := lw_in wsJ230 [896, 897, 898, 899, 900, 901] (by decide +kernel) (by decide +kernel)
/-! java/lang/ArrayIndexOutOfBoundsException -/
set_option maxRecDepth 100000
def RJ24 : String := "java/lang/ArrayIndexOutOfBoundsException"
def TJ24 : u_T := fun k => match k with
  | 0 => ("java/lang/Throwable", "cause", "Ljava/lang/Throwable;", false)
  | 1 => ("java/lang/Throwable", "stackTrace", "[Ljava/lang/StackTraceElement;", false)
  | 2 => ("java/lang/Throwable", "suppressedExceptions", "Ljava/util/List;", false)
  | 3 => ("java/lang/Throwable", "detailMessage", "Ljava/lang/String;", false)
  | 4 => ("java/lang/Throwable", "backtrace", "Ljava/lang/Object;", false)
  | _ => ("java/lang/Throwable", "depth", "I", false)
def tyJ24 : Nat → FieldType := fun k => match k with
  | 0 => .object "java/lang/Throwable"
  | 1 => .array (.object "java/lang/StackTraceElement")
  | 2 => .object "java/util/List"
  | 3 => .object "java/lang/String"
  | 4 => .object "java/lang/Object"
  | _ => .int
abbrev wsJ240 : List Cond := u_ws RJ24 TJ24 6
theorem nmJ24 : ∀ a, a < 6 → ∀ b, b < 6 → a ≠ b → (TJ24 a).2.1 ≠ (TJ24 b).2.1 := by decide +kernel
theorem tyJ24_ok : ∀ k, k < 6 → parseFieldDescriptor (TJ24 k).2.2.1 = some (tyJ24 k) := by decide +kernel
abbrev cJ24_init : ByteArray := prog_31_method_3_code
def yJ24_init : MethodName := ⟨RJ24, "<init>", "(I)V"⟩
def dkwJ24_init_0 : List UInt8 := [42, 187, 0, 10, 89, 183, 0, 12, 18, 13, 182, 0, 15, 27, 182, 0, 19, 182, 0, 22, 183, 0, 7, 177]
abbrev dktJ24_init_0 : List UInt8 := dkwJ24_init_0 ++ []
theorem dksJ24_init_0 : cJ24_init.data.toList.drop 0 = dktJ24_init_0 := by decide +kernel
theorem dJ24_init_0 : decode cJ24_init 0 = .ok (.aload_n 0, 1) := dk_42 (dk_at dksJ24_init_0 0 rfl rfl)
theorem dJ24_init_1 : decode cJ24_init 1 = .ok (.new 10, 3) := dk_187 0 10 (dk_at dksJ24_init_0 1 rfl rfl)
theorem dJ24_init_4 : decode cJ24_init 4 = .ok (.dup, 1) := dk_89 (dk_at dksJ24_init_0 4 rfl rfl)
theorem dJ24_init_5 : decode cJ24_init 5 = .ok (.invokespecial 12, 3) := dk_183 0 12 (dk_at dksJ24_init_0 5 rfl rfl)
theorem dJ24_init_8 : decode cJ24_init 8 = .ok (.ldc 13, 2) := dk_18 13 (dk_at dksJ24_init_0 8 rfl rfl)
theorem dJ24_init_10 : decode cJ24_init 10 = .ok (.invokevirtual 15, 3) := dk_182 0 15 (dk_at dksJ24_init_0 10 rfl rfl)
theorem dJ24_init_13 : decode cJ24_init 13 = .ok (.iload_n 1, 1) := dk_27 (dk_at dksJ24_init_0 13 rfl rfl)
theorem dJ24_init_14 : decode cJ24_init 14 = .ok (.invokevirtual 19, 3) := dk_182 0 19 (dk_at dksJ24_init_0 14 rfl rfl)
theorem dJ24_init_17 : decode cJ24_init 17 = .ok (.invokevirtual 22, 3) := dk_182 0 22 (dk_at dksJ24_init_0 17 rfl rfl)
theorem dJ24_init_20 : decode cJ24_init 20 = .ok (.invokespecial 7, 3) := dk_183 0 7 (dk_at dksJ24_init_0 20 rfl rfl)
theorem dJ24_init_23 : decode cJ24_init 23 = .ok (.return_, 1) := dk_177 (dk_at dksJ24_init_0 23 rfl rfl)
abbrev cJ24_init_2 : ByteArray := prog_31_method_2_code
def yJ24_init_2 : MethodName := ⟨RJ24, "<init>", "(Ljava/lang/String;)V"⟩
def dkwJ24_init_2_0 : List UInt8 := [42, 43, 183, 0, 7, 177]
abbrev dktJ24_init_2_0 : List UInt8 := dkwJ24_init_2_0 ++ []
theorem dksJ24_init_2_0 : cJ24_init_2.data.toList.drop 0 = dktJ24_init_2_0 := by decide +kernel
theorem dJ24_init_2_0 : decode cJ24_init_2 0 = .ok (.aload_n 0, 1) := dk_42 (dk_at dksJ24_init_2_0 0 rfl rfl)
theorem dJ24_init_2_1 : decode cJ24_init_2 1 = .ok (.aload_n 1, 1) := dk_43 (dk_at dksJ24_init_2_0 1 rfl rfl)
theorem dJ24_init_2_2 : decode cJ24_init_2 2 = .ok (.invokespecial 7, 3) := dk_183 0 7 (dk_at dksJ24_init_2_0 2 rfl rfl)
theorem dJ24_init_2_5 : decode cJ24_init_2 5 = .ok (.return_, 1) := dk_177 (dk_at dksJ24_init_2_0 5 rfl rfl)
theorem q103 : (Jvm.Cond.initialized "java/lang/ArrayIndexOutOfBoundsException") ∈ lw_all := lw_g (lw_at lw_m1 31 rfl) rfl
theorem q385 : (Jvm.Cond.selects "java/lang/ArrayIndexOutOfBoundsException" ({ cls := "java/lang/Throwable", name := "fillInStackTrace", desc := "()Ljava/lang/Throwable;" } : Jvm.MethodName) ({ cls := "java/lang/Throwable", name := "fillInStackTrace", desc := "()Ljava/lang/Throwable;" } : Jvm.MethodName)) ∈ lw_all := lw_g (lw_at lw_m2 73 rfl) rfl
theorem q511 : (Jvm.Cond.selects "java/lang/ArrayIndexOutOfBoundsException" ({ cls := "java/lang/Object", name := "getClass", desc := "()Ljava/lang/Class;" } : Jvm.MethodName) ({ cls := "java/lang/Object", name := "getClass", desc := "()Ljava/lang/Class;" } : Jvm.MethodName)) ∈ lw_all := lw_g (lw_at lw_m2 199 rfl) rfl
theorem q916 : (Jvm.Cond.instantiable "java/lang/ArrayIndexOutOfBoundsException" (6 : Nat)) ∈ lw_all := lw_g (lw_at lw_m4 124 rfl) rfl
theorem q917 : (Jvm.Cond.castable "java/lang/ArrayIndexOutOfBoundsException" "java/lang/ArrayIndexOutOfBoundsException") ∈ lw_tbl := lw_at lw_m4 125 rfl
theorem q920 : (Jvm.Cond.selects "java/lang/ArrayIndexOutOfBoundsException" ({ cls := "java/lang/Throwable", name := "fillInStackTrace", desc := "(I)Ljava/lang/Throwable;" } : Jvm.MethodName) ({ cls := "java/lang/Throwable", name := "fillInStackTrace", desc := "(I)Ljava/lang/Throwable;" } : Jvm.MethodName)) ∈ lw_all := lw_g (lw_at lw_m4 128 rfl) rfl
theorem q921 : (Jvm.Cond.lays "java/lang/ArrayIndexOutOfBoundsException" "java/lang/Throwable" "cause" "Ljava/lang/Throwable;") ∈ lw_all := lw_g (lw_at lw_m4 129 rfl) rfl
theorem q922 : (Jvm.Cond.lays "java/lang/ArrayIndexOutOfBoundsException" "java/lang/Throwable" "stackTrace" "[Ljava/lang/StackTraceElement;") ∈ lw_all := lw_g (lw_at lw_m4 130 rfl) rfl
theorem q923 : (Jvm.Cond.lays "java/lang/ArrayIndexOutOfBoundsException" "java/lang/Throwable" "suppressedExceptions" "Ljava/util/List;") ∈ lw_all := lw_g (lw_at lw_m4 131 rfl) rfl
theorem q924 : (Jvm.Cond.lays "java/lang/ArrayIndexOutOfBoundsException" "java/lang/Throwable" "detailMessage" "Ljava/lang/String;") ∈ lw_all := lw_g (lw_at lw_m4 132 rfl) rfl
theorem q925 : (Jvm.Cond.lays "java/lang/ArrayIndexOutOfBoundsException" "java/lang/Throwable" "backtrace" "Ljava/lang/Object;") ∈ lw_all := lw_g (lw_at lw_m4 133 rfl) rfl
theorem q927 : (Jvm.Cond.instanceMethod ({ cls := "java/lang/ArrayIndexOutOfBoundsException", name := "<init>", desc := "(I)V" } : Jvm.MethodName)) ∈ lw_all := lw_g (lw_at lw_m4 135 rfl) rfl
theorem q928 : (Jvm.Cond.code ({ cls := "java/lang/ArrayIndexOutOfBoundsException", name := "<init>", desc := "(I)V" } : Jvm.MethodName) prog_31_method_3_code (2 : Nat) (Option.none : Option Jvm.ClassFile.FieldType)) ∈ lw_all := lw_g (lw_at lw_m4 136 rfl) rfl
theorem q929 : (Jvm.Cond.classLink "java/lang/ArrayIndexOutOfBoundsException" (10 : Nat) "java/lang/StringBuilder") ∈ lw_all := lw_g (lw_at lw_m4 137 rfl) rfl
theorem q930 : (Jvm.Cond.methodLink "java/lang/ArrayIndexOutOfBoundsException" (12 : Nat) ({ cls := "java/lang/StringBuilder", name := "<init>", desc := "()V" } : Jvm.MethodName)) ∈ lw_all := lw_g (lw_at lw_m4 138 rfl) rfl
theorem q931 : (Jvm.Cond.stringRef "java/lang/ArrayIndexOutOfBoundsException" (13 : Nat) "Array index out of range: ") ∈ lw_tbl := lw_at lw_m4 139 rfl
theorem q932 : (Jvm.Cond.methodLink "java/lang/ArrayIndexOutOfBoundsException" (15 : Nat) ({ cls := "java/lang/StringBuilder", name := "append", desc := "(Ljava/lang/String;)Ljava/lang/StringBuilder;" } : Jvm.MethodName)) ∈ lw_all := lw_g (lw_at lw_m4 140 rfl) rfl
theorem q933 : (Jvm.Cond.methodLink "java/lang/ArrayIndexOutOfBoundsException" (19 : Nat) ({ cls := "java/lang/StringBuilder", name := "append", desc := "(I)Ljava/lang/StringBuilder;" } : Jvm.MethodName)) ∈ lw_all := lw_g (lw_at lw_m4 141 rfl) rfl
theorem q934 : (Jvm.Cond.methodLink "java/lang/ArrayIndexOutOfBoundsException" (22 : Nat) ({ cls := "java/lang/StringBuilder", name := "toString", desc := "()Ljava/lang/String;" } : Jvm.MethodName)) ∈ lw_all := lw_g (lw_at lw_m4 142 rfl) rfl
theorem q935 : (Jvm.Cond.methodLink "java/lang/ArrayIndexOutOfBoundsException" (7 : Nat) ({ cls := "java/lang/IndexOutOfBoundsException", name := "<init>", desc := "(Ljava/lang/String;)V" } : Jvm.MethodName)) ∈ lw_all := lw_g (lw_at lw_m4 143 rfl) rfl
theorem q936 : (Jvm.Cond.lays "java/lang/ArrayIndexOutOfBoundsException" "java/lang/Throwable" "depth" "I") ∈ lw_all := lw_g (lw_at lw_m4 144 rfl) rfl
theorem q937 : (Jvm.Cond.superclass "java/lang/ArrayIndexOutOfBoundsException" "java/lang/IndexOutOfBoundsException") ∈ lw_all := lw_g (lw_at lw_m4 145 rfl) rfl
theorem q1270 : (Jvm.Cond.instanceMethod ({ cls := "java/lang/ArrayIndexOutOfBoundsException", name := "<init>", desc := "(Ljava/lang/String;)V" } : Jvm.MethodName)) ∈ lw_all := lw_g (lw_at lw_m5 238 rfl) rfl
theorem q1271 : (Jvm.Cond.code ({ cls := "java/lang/ArrayIndexOutOfBoundsException", name := "<init>", desc := "(Ljava/lang/String;)V" } : Jvm.MethodName) prog_31_method_2_code (2 : Nat) (Option.none : Option Jvm.ClassFile.FieldType)) ∈ lw_all := lw_g (lw_at lw_m5 239 rfl) rfl
theorem q1845 : (Jvm.Cond.selects "java/lang/ArrayIndexOutOfBoundsException" ({ cls := "java/lang/Object", name := "hashCode", desc := "()I" } : Jvm.MethodName) ({ cls := "java/lang/Object", name := "hashCode", desc := "()I" } : Jvm.MethodName)) ∈ lw_all := lw_g (lw_at lw_m8 93 rfl) rfl
theorem q1943 : (Jvm.Cond.selects "java/lang/ArrayIndexOutOfBoundsException" ({ cls := "java/lang/Object", name := "equals", desc := "(Ljava/lang/Object;)Z" } : Jvm.MethodName) ({ cls := "java/lang/Object", name := "equals", desc := "(Ljava/lang/Object;)Z" } : Jvm.MethodName)) ∈ lw_all := lw_g (lw_at lw_m8 191 rfl) rfl
theorem q3141 : (Jvm.Cond.castable "java/lang/ArrayIndexOutOfBoundsException" "java/lang/IndexOutOfBoundsException") ∈ lw_tbl := lw_at lw_m13 189 rfl
theorem q3166 : (Jvm.Cond.castable "java/lang/ArrayIndexOutOfBoundsException" "java/lang/Object") ∈ lw_tbl := lw_at lw_m13 214 rfl
theorem in_J24 : ∀ w ∈ wsJ240, w ∈ lw_all := lw_in wsJ240 [921, 922, 923, 924, 925, 936] (by decide +kernel) (by decide +kernel)
/-! java/util/Objects -/
set_option maxRecDepth 100000
def RJ25 : String := "java/util/Objects"
abbrev cJ25_checkIndex : ByteArray := prog_78_method_17_code
def yJ25_checkIndex : MethodName := ⟨RJ25, "checkIndex", "(II)I"⟩
def dkwJ25_checkIndex_0 : List UInt8 := [26, 27, 1, 184, 0, 105, 172]
abbrev dktJ25_checkIndex_0 : List UInt8 := dkwJ25_checkIndex_0 ++ []
theorem dksJ25_checkIndex_0 : cJ25_checkIndex.data.toList.drop 0 = dktJ25_checkIndex_0 := by decide +kernel
theorem dJ25_checkIndex_0 : decode cJ25_checkIndex 0 = .ok (.iload_n 0, 1) := dk_26 (dk_at dksJ25_checkIndex_0 0 rfl rfl)
theorem dJ25_checkIndex_1 : decode cJ25_checkIndex 1 = .ok (.iload_n 1, 1) := dk_27 (dk_at dksJ25_checkIndex_0 1 rfl rfl)
theorem dJ25_checkIndex_2 : decode cJ25_checkIndex 2 = .ok (.aconst_null, 1) := dk_1 (dk_at dksJ25_checkIndex_0 2 rfl rfl)
theorem dJ25_checkIndex_3 : decode cJ25_checkIndex 3 = .ok (.invokestatic 105, 3) := dk_184 0 105 (dk_at dksJ25_checkIndex_0 3 rfl rfl)
theorem dJ25_checkIndex_6 : decode cJ25_checkIndex 6 = .ok (.ireturn, 1) := dk_172 (dk_at dksJ25_checkIndex_0 6 rfl rfl)
theorem q108 : (Jvm.Cond.initialized "java/util/Objects") ∈ lw_all := lw_g (lw_at lw_m1 36 rfl) rfl
theorem q1149 : (Jvm.Cond.static ({ cls := "java/util/Objects", name := "checkIndex", desc := "(II)I" } : Jvm.MethodName)) ∈ lw_all := lw_g (lw_at lw_m5 117 rfl) rfl
theorem q1150 : (Jvm.Cond.code ({ cls := "java/util/Objects", name := "checkIndex", desc := "(II)I" } : Jvm.MethodName) prog_78_method_17_code (2 : Nat) (Option.some Jvm.ClassFile.FieldType.int)) ∈ lw_all := lw_g (lw_at lw_m5 118 rfl) rfl
theorem q1151 : (Jvm.Cond.methodLink "java/util/Objects" (105 : Nat) ({ cls := "jdk/internal/util/Preconditions", name := "checkIndex", desc := "(IILjava/util/function/BiFunction;)I" } : Jvm.MethodName)) ∈ lw_all := lw_g (lw_at lw_m5 119 rfl) rfl
/-! java/lang/UnsupportedOperationException -/
set_option maxRecDepth 100000
def RJ26 : String := "java/lang/UnsupportedOperationException"
def TJ26 : u_T := fun k => match k with
  | 0 => ("java/lang/Throwable", "cause", "Ljava/lang/Throwable;", false)
  | 1 => ("java/lang/Throwable", "stackTrace", "[Ljava/lang/StackTraceElement;", false)
  | 2 => ("java/lang/Throwable", "suppressedExceptions", "Ljava/util/List;", false)
  | 3 => ("java/lang/Throwable", "detailMessage", "Ljava/lang/String;", false)
  | 4 => ("java/lang/Throwable", "backtrace", "Ljava/lang/Object;", false)
  | _ => ("java/lang/Throwable", "depth", "I", false)
def tyJ26 : Nat → FieldType := fun k => match k with
  | 0 => .object "java/lang/Throwable"
  | 1 => .array (.object "java/lang/StackTraceElement")
  | 2 => .object "java/util/List"
  | 3 => .object "java/lang/String"
  | 4 => .object "java/lang/Object"
  | _ => .int
abbrev wsJ260 : List Cond := u_ws RJ26 TJ26 6
theorem nmJ26 : ∀ a, a < 6 → ∀ b, b < 6 → a ≠ b → (TJ26 a).2.1 ≠ (TJ26 b).2.1 := by decide +kernel
theorem tyJ26_ok : ∀ k, k < 6 → parseFieldDescriptor (TJ26 k).2.2.1 = some (tyJ26 k) := by decide +kernel
abbrev cJ26_init : ByteArray := prog_55_method_1_code
def yJ26_init : MethodName := ⟨RJ26, "<init>", "()V"⟩
theorem dJ26_init_0 : decode cJ26_init 0 = .ok (.aload_n 0, 1) := by decide +kernel
theorem dJ26_init_1 : decode cJ26_init 1 = .ok (.invokespecial 1, 3) := by decide +kernel
theorem dJ26_init_4 : decode cJ26_init 4 = .ok (.return_, 1) := by decide +kernel
theorem q109 : (Jvm.Cond.initialized "java/lang/UnsupportedOperationException") ∈ lw_all := lw_g (lw_at lw_m1 37 rfl) rfl
theorem q390 : (Jvm.Cond.selects "java/lang/UnsupportedOperationException" ({ cls := "java/lang/Throwable", name := "fillInStackTrace", desc := "()Ljava/lang/Throwable;" } : Jvm.MethodName) ({ cls := "java/lang/Throwable", name := "fillInStackTrace", desc := "()Ljava/lang/Throwable;" } : Jvm.MethodName)) ∈ lw_all := lw_g (lw_at lw_m2 78 rfl) rfl
theorem q520 : (Jvm.Cond.selects "java/lang/UnsupportedOperationException" ({ cls := "java/lang/Object", name := "getClass", desc := "()Ljava/lang/Class;" } : Jvm.MethodName) ({ cls := "java/lang/Object", name := "getClass", desc := "()Ljava/lang/Class;" } : Jvm.MethodName)) ∈ lw_all := lw_g (lw_at lw_m2 208 rfl) rfl
theorem q1247 : (Jvm.Cond.instantiable "java/lang/UnsupportedOperationException" (6 : Nat)) ∈ lw_all := lw_g (lw_at lw_m5 215 rfl) rfl
theorem q1248 : (Jvm.Cond.castable "java/lang/UnsupportedOperationException" "java/lang/UnsupportedOperationException") ∈ lw_tbl := lw_at lw_m5 216 rfl
theorem q1249 : (Jvm.Cond.selects "java/lang/UnsupportedOperationException" ({ cls := "java/lang/Throwable", name := "fillInStackTrace", desc := "(I)Ljava/lang/Throwable;" } : Jvm.MethodName) ({ cls := "java/lang/Throwable", name := "fillInStackTrace", desc := "(I)Ljava/lang/Throwable;" } : Jvm.MethodName)) ∈ lw_all := lw_g (lw_at lw_m5 217 rfl) rfl
theorem q1250 : (Jvm.Cond.lays "java/lang/UnsupportedOperationException" "java/lang/Throwable" "cause" "Ljava/lang/Throwable;") ∈ lw_all := lw_g (lw_at lw_m5 218 rfl) rfl
theorem q1251 : (Jvm.Cond.lays "java/lang/UnsupportedOperationException" "java/lang/Throwable" "stackTrace" "[Ljava/lang/StackTraceElement;") ∈ lw_all := lw_g (lw_at lw_m5 219 rfl) rfl
theorem q1252 : (Jvm.Cond.lays "java/lang/UnsupportedOperationException" "java/lang/Throwable" "suppressedExceptions" "Ljava/util/List;") ∈ lw_all := lw_g (lw_at lw_m5 220 rfl) rfl
theorem q1253 : (Jvm.Cond.lays "java/lang/UnsupportedOperationException" "java/lang/Throwable" "detailMessage" "Ljava/lang/String;") ∈ lw_all := lw_g (lw_at lw_m5 221 rfl) rfl
theorem q1254 : (Jvm.Cond.lays "java/lang/UnsupportedOperationException" "java/lang/Throwable" "backtrace" "Ljava/lang/Object;") ∈ lw_all := lw_g (lw_at lw_m5 222 rfl) rfl
theorem q1256 : (Jvm.Cond.instanceMethod ({ cls := "java/lang/UnsupportedOperationException", name := "<init>", desc := "()V" } : Jvm.MethodName)) ∈ lw_all := lw_g (lw_at lw_m5 224 rfl) rfl
theorem q1257 : (Jvm.Cond.code ({ cls := "java/lang/UnsupportedOperationException", name := "<init>", desc := "()V" } : Jvm.MethodName) prog_55_method_1_code (1 : Nat) (Option.none : Option Jvm.ClassFile.FieldType)) ∈ lw_all := lw_g (lw_at lw_m5 225 rfl) rfl
theorem q1258 : (Jvm.Cond.methodLink "java/lang/UnsupportedOperationException" (1 : Nat) ({ cls := "java/lang/RuntimeException", name := "<init>", desc := "()V" } : Jvm.MethodName)) ∈ lw_all := lw_g (lw_at lw_m5 226 rfl) rfl
theorem q1259 : (Jvm.Cond.lays "java/lang/UnsupportedOperationException" "java/lang/Throwable" "depth" "I") ∈ lw_all := lw_g (lw_at lw_m5 227 rfl) rfl
theorem q1260 : (Jvm.Cond.superclass "java/lang/UnsupportedOperationException" "java/lang/RuntimeException") ∈ lw_all := lw_g (lw_at lw_m5 228 rfl) rfl
theorem q1914 : (Jvm.Cond.selects "java/lang/UnsupportedOperationException" ({ cls := "java/lang/Object", name := "hashCode", desc := "()I" } : Jvm.MethodName) ({ cls := "java/lang/Object", name := "hashCode", desc := "()I" } : Jvm.MethodName)) ∈ lw_all := lw_g (lw_at lw_m8 162 rfl) rfl
theorem q1959 : (Jvm.Cond.selects "java/lang/UnsupportedOperationException" ({ cls := "java/lang/Object", name := "equals", desc := "(Ljava/lang/Object;)Z" } : Jvm.MethodName) ({ cls := "java/lang/Object", name := "equals", desc := "(Ljava/lang/Object;)Z" } : Jvm.MethodName)) ∈ lw_all := lw_g (lw_at lw_m8 207 rfl) rfl
theorem q3170 : (Jvm.Cond.castable "java/lang/UnsupportedOperationException" "java/lang/Object") ∈ lw_tbl := lw_at lw_m13 218 rfl
theorem in_J26 : ∀ w ∈ wsJ260, w ∈ lw_all := lw_in wsJ260 [1250, 1251, 1252, 1253, 1254, 1259] (by decide +kernel) (by decide +kernel)
/-! java/lang/ArithmeticException -/
set_option maxRecDepth 100000
def RJ27 : String := "java/lang/ArithmeticException"
def TJ27 : u_T := fun k => match k with
  | 0 => ("java/lang/Throwable", "backtrace", "Ljava/lang/Object;", false)
  | 1 => ("java/lang/Throwable", "detailMessage", "Ljava/lang/String;", false)
  | 2 => ("java/lang/Throwable", "cause", "Ljava/lang/Throwable;", false)
  | 3 => ("java/lang/Throwable", "stackTrace", "[Ljava/lang/StackTraceElement;", false)
  | 4 => ("java/lang/Throwable", "depth", "I", false)
  | _ => ("java/lang/Throwable", "suppressedExceptions", "Ljava/util/List;", false)
def tyJ27 : Nat → FieldType := fun k => match k with
  | 0 => .object "java/lang/Object"
  | 1 => .object "java/lang/String"
  | 2 => .object "java/lang/Throwable"
  | 3 => .array (.object "java/lang/StackTraceElement")
  | 4 => .int
  | _ => .object "java/util/List"
abbrev wsJ270 : List Cond := u_ws RJ27 TJ27 6
theorem nmJ27 : ∀ a, a < 6 → ∀ b, b < 6 → a ≠ b → (TJ27 a).2.1 ≠ (TJ27 b).2.1 := by decide +kernel
theorem tyJ27_ok : ∀ k, k < 6 → parseFieldDescriptor (TJ27 k).2.2.1 = some (tyJ27 k) := by decide +kernel
abbrev cJ27_init : ByteArray := prog_30_method_2_code
def yJ27_init : MethodName := ⟨RJ27, "<init>", "(Ljava/lang/String;)V"⟩
def dkwJ27_init_0 : List UInt8 := [42, 43, 183, 0, 7, 177]
abbrev dktJ27_init_0 : List UInt8 := dkwJ27_init_0 ++ []
theorem dksJ27_init_0 : cJ27_init.data.toList.drop 0 = dktJ27_init_0 := by decide +kernel
theorem dJ27_init_0 : decode cJ27_init 0 = .ok (.aload_n 0, 1) := dk_42 (dk_at dksJ27_init_0 0 rfl rfl)
theorem dJ27_init_1 : decode cJ27_init 1 = .ok (.aload_n 1, 1) := dk_43 (dk_at dksJ27_init_0 1 rfl rfl)
theorem dJ27_init_2 : decode cJ27_init 2 = .ok (.invokespecial 7, 3) := dk_183 0 7 (dk_at dksJ27_init_0 2 rfl rfl)
theorem dJ27_init_5 : decode cJ27_init 5 = .ok (.return_, 1) := dk_177 (dk_at dksJ27_init_0 5 rfl rfl)
abbrev cJ27_init_2 : ByteArray := prog_30_method_1_code
def yJ27_init_2 : MethodName := ⟨RJ27, "<init>", "()V"⟩
theorem dJ27_init_2_0 : decode cJ27_init_2 0 = .ok (.aload_n 0, 1) := by decide +kernel
theorem dJ27_init_2_1 : decode cJ27_init_2 1 = .ok (.invokespecial 1, 3) := by decide +kernel
theorem dJ27_init_2_4 : decode cJ27_init_2 4 = .ok (.return_, 1) := by decide +kernel
theorem q110 : (Jvm.Cond.initialized "java/lang/ArithmeticException") ∈ lw_all := lw_g (lw_at lw_m1 38 rfl) rfl
theorem q384 : (Jvm.Cond.selects "java/lang/ArithmeticException" ({ cls := "java/lang/Throwable", name := "fillInStackTrace", desc := "()Ljava/lang/Throwable;" } : Jvm.MethodName) ({ cls := "java/lang/Throwable", name := "fillInStackTrace", desc := "()Ljava/lang/Throwable;" } : Jvm.MethodName)) ∈ lw_all := lw_g (lw_at lw_m2 72 rfl) rfl
theorem q510 : (Jvm.Cond.selects "java/lang/ArithmeticException" ({ cls := "java/lang/Object", name := "getClass", desc := "()Ljava/lang/Class;" } : Jvm.MethodName) ({ cls := "java/lang/Object", name := "getClass", desc := "()Ljava/lang/Class;" } : Jvm.MethodName)) ∈ lw_all := lw_g (lw_at lw_m2 198 rfl) rfl
theorem q1352 : (Jvm.Cond.instantiable "java/lang/ArithmeticException" (6 : Nat)) ∈ lw_all := lw_g (lw_at lw_m6 80 rfl) rfl
theorem q1353 : (Jvm.Cond.instanceMethod ({ cls := "java/lang/ArithmeticException", name := "<init>", desc := "(Ljava/lang/String;)V" } : Jvm.MethodName)) ∈ lw_all := lw_g (lw_at lw_m6 81 rfl) rfl
theorem q1354 : (Jvm.Cond.code ({ cls := "java/lang/ArithmeticException", name := "<init>", desc := "(Ljava/lang/String;)V" } : Jvm.MethodName) prog_30_method_2_code (2 : Nat) (Option.none : Option Jvm.ClassFile.FieldType)) ∈ lw_all := lw_g (lw_at lw_m6 82 rfl) rfl
theorem q1355 : (Jvm.Cond.methodLink "java/lang/ArithmeticException" (7 : Nat) ({ cls := "java/lang/RuntimeException", name := "<init>", desc := "(Ljava/lang/String;)V" } : Jvm.MethodName)) ∈ lw_all := lw_g (lw_at lw_m6 83 rfl) rfl
theorem q1356 : (Jvm.Cond.lays "java/lang/ArithmeticException" "java/lang/Throwable" "backtrace" "Ljava/lang/Object;") ∈ lw_all := lw_g (lw_at lw_m6 84 rfl) rfl
theorem q1357 : (Jvm.Cond.lays "java/lang/ArithmeticException" "java/lang/Throwable" "detailMessage" "Ljava/lang/String;") ∈ lw_all := lw_g (lw_at lw_m6 85 rfl) rfl
theorem q1358 : (Jvm.Cond.lays "java/lang/ArithmeticException" "java/lang/Throwable" "cause" "Ljava/lang/Throwable;") ∈ lw_all := lw_g (lw_at lw_m6 86 rfl) rfl
theorem q1359 : (Jvm.Cond.lays "java/lang/ArithmeticException" "java/lang/Throwable" "stackTrace" "[Ljava/lang/StackTraceElement;") ∈ lw_all := lw_g (lw_at lw_m6 87 rfl) rfl
theorem q1360 : (Jvm.Cond.lays "java/lang/ArithmeticException" "java/lang/Throwable" "depth" "I") ∈ lw_all := lw_g (lw_at lw_m6 88 rfl) rfl
theorem q1361 : (Jvm.Cond.lays "java/lang/ArithmeticException" "java/lang/Throwable" "suppressedExceptions" "Ljava/util/List;") ∈ lw_all := lw_g (lw_at lw_m6 89 rfl) rfl
theorem q1362 : (Jvm.Cond.superclass "java/lang/ArithmeticException" "java/lang/RuntimeException") ∈ lw_all := lw_g (lw_at lw_m6 90 rfl) rfl
theorem q1363 : (Jvm.Cond.castable "java/lang/ArithmeticException" "java/lang/ArithmeticException") ∈ lw_tbl := lw_at lw_m6 91 rfl
theorem q1364 : (Jvm.Cond.selects "java/lang/ArithmeticException" ({ cls := "java/lang/Throwable", name := "fillInStackTrace", desc := "(I)Ljava/lang/Throwable;" } : Jvm.MethodName) ({ cls := "java/lang/Throwable", name := "fillInStackTrace", desc := "(I)Ljava/lang/Throwable;" } : Jvm.MethodName)) ∈ lw_all := lw_g (lw_at lw_m6 92 rfl) rfl
theorem q1844 : (Jvm.Cond.selects "java/lang/ArithmeticException" ({ cls := "java/lang/Object", name := "hashCode", desc := "()I" } : Jvm.MethodName) ({ cls := "java/lang/Object", name := "hashCode", desc := "()I" } : Jvm.MethodName)) ∈ lw_all := lw_g (lw_at lw_m8 92 rfl) rfl
theorem q1942 : (Jvm.Cond.selects "java/lang/ArithmeticException" ({ cls := "java/lang/Object", name := "equals", desc := "(Ljava/lang/Object;)Z" } : Jvm.MethodName) ({ cls := "java/lang/Object", name := "equals", desc := "(Ljava/lang/Object;)Z" } : Jvm.MethodName)) ∈ lw_all := lw_g (lw_at lw_m8 190 rfl) rfl
theorem q2628 : (Jvm.Cond.instanceMethod ({ cls := "java/lang/ArithmeticException", name := "<init>", desc := "()V" } : Jvm.MethodName)) ∈ lw_all := lw_g (lw_at lw_m11 156 rfl) rfl
theorem q2629 : (Jvm.Cond.code ({ cls := "java/lang/ArithmeticException", name := "<init>", desc := "()V" } : Jvm.MethodName) prog_30_method_1_code (1 : Nat) (Option.none : Option Jvm.ClassFile.FieldType)) ∈ lw_all := lw_g (lw_at lw_m11 157 rfl) rfl
theorem q2630 : (Jvm.Cond.methodLink "java/lang/ArithmeticException" (1 : Nat) ({ cls := "java/lang/RuntimeException", name := "<init>", desc := "()V" } : Jvm.MethodName)) ∈ lw_all := lw_g (lw_at lw_m11 158 rfl) rfl
theorem q3172 : (Jvm.Cond.castable "java/lang/ArithmeticException" "java/lang/Object") ∈ lw_tbl := lw_at lw_m13 220 rfl
theorem in_J27 : ∀ w ∈ wsJ270, w ∈ lw_all := lw_in wsJ270 [1356, 1357, 1358, 1359, 1360, 1361] (by decide +kernel) (by decide +kernel)
/-! java/lang/Enum -/
set_option maxRecDepth 100000
def RJ28 : String := "java/lang/Enum"
abbrev cJ28_ordinal : ByteArray := prog_35_method_2_code
def yJ28_ordinal : MethodName := ⟨RJ28, "ordinal", "()I"⟩
theorem dJ28_ordinal_0 : decode cJ28_ordinal 0 = .ok (.aload_n 0, 1) := by decide +kernel
theorem dJ28_ordinal_1 : decode cJ28_ordinal 1 = .ok (.getfield 7, 3) := by decide +kernel
theorem dJ28_ordinal_4 : decode cJ28_ordinal 4 = .ok (.ireturn, 1) := by decide +kernel
abbrev cJ28_hashCode : ByteArray := prog_35_method_6_code
def yJ28_hashCode : MethodName := ⟨RJ28, "hashCode", "()I"⟩
def dkwJ28_hashCode_0 : List UInt8 := [42, 180, 0, 17, 60, 27, 154, 0, 13, 42, 42, 184, 0, 20, 90, 181, 0, 17, 60, 27, 172]
abbrev dktJ28_hashCode_0 : List UInt8 := dkwJ28_hashCode_0 ++ []
theorem dksJ28_hashCode_0 : cJ28_hashCode.data.toList.drop 0 = dktJ28_hashCode_0 := by decide +kernel
theorem dJ28_hashCode_0 : decode cJ28_hashCode 0 = .ok (.aload_n 0, 1) := dk_42 (dk_at dksJ28_hashCode_0 0 rfl rfl)
theorem dJ28_hashCode_1 : decode cJ28_hashCode 1 = .ok (.getfield 17, 3) := dk_180 0 17 (dk_at dksJ28_hashCode_0 1 rfl rfl)
theorem dJ28_hashCode_4 : decode cJ28_hashCode 4 = .ok (.istore_n 1, 1) := dk_60 (dk_at dksJ28_hashCode_0 4 rfl rfl)
theorem dJ28_hashCode_5 : decode cJ28_hashCode 5 = .ok (.iload_n 1, 1) := dk_27 (dk_at dksJ28_hashCode_0 5 rfl rfl)
theorem dJ28_hashCode_6 : decode cJ28_hashCode 6 = .ok (.ifCond .ne 13, 3) := dk_154 0 13 (dk_at dksJ28_hashCode_0 6 rfl rfl)
theorem dJ28_hashCode_9 : decode cJ28_hashCode 9 = .ok (.aload_n 0, 1) := dk_42 (dk_at dksJ28_hashCode_0 9 rfl rfl)
theorem dJ28_hashCode_10 : decode cJ28_hashCode 10 = .ok (.aload_n 0, 1) := dk_42 (dk_at dksJ28_hashCode_0 10 rfl rfl)
theorem dJ28_hashCode_11 : decode cJ28_hashCode 11 = .ok (.invokestatic 20, 3) := dk_184 0 20 (dk_at dksJ28_hashCode_0 11 rfl rfl)
theorem dJ28_hashCode_14 : decode cJ28_hashCode 14 = .ok (.dup_x1, 1) := dk_90 (dk_at dksJ28_hashCode_0 14 rfl rfl)
theorem dJ28_hashCode_15 : decode cJ28_hashCode 15 = .ok (.putfield 17, 3) := dk_181 0 17 (dk_at dksJ28_hashCode_0 15 rfl rfl)
theorem dJ28_hashCode_18 : decode cJ28_hashCode 18 = .ok (.istore_n 1, 1) := dk_60 (dk_at dksJ28_hashCode_0 18 rfl rfl)
theorem dJ28_hashCode_19 : decode cJ28_hashCode 19 = .ok (.iload_n 1, 1) := dk_27 (dk_at dksJ28_hashCode_0 19 rfl rfl)
theorem dJ28_hashCode_20 : decode cJ28_hashCode 20 = .ok (.ireturn, 1) := dk_172 (dk_at dksJ28_hashCode_0 20 rfl rfl)
abbrev cJ28_equals : ByteArray := prog_35_method_5_code
def yJ28_equals : MethodName := ⟨RJ28, "equals", "(Ljava/lang/Object;)Z"⟩
def dkwJ28_equals_0 : List UInt8 := [42, 43, 166, 0, 7, 4, 167, 0, 4, 3, 172]
abbrev dktJ28_equals_0 : List UInt8 := dkwJ28_equals_0 ++ []
theorem dksJ28_equals_0 : cJ28_equals.data.toList.drop 0 = dktJ28_equals_0 := by decide +kernel
theorem dJ28_equals_0 : decode cJ28_equals 0 = .ok (.aload_n 0, 1) := dk_42 (dk_at dksJ28_equals_0 0 rfl rfl)
theorem dJ28_equals_1 : decode cJ28_equals 1 = .ok (.aload_n 1, 1) := dk_43 (dk_at dksJ28_equals_0 1 rfl rfl)
theorem dJ28_equals_2 : decode cJ28_equals 2 = .ok (.if_acmp .ne 7, 3) := dk_166 0 7 (dk_at dksJ28_equals_0 2 rfl rfl)
theorem dJ28_equals_5 : decode cJ28_equals 5 = .ok (.iconst 1, 1) := dk_4 (dk_at dksJ28_equals_0 5 rfl rfl)
theorem dJ28_equals_6 : decode cJ28_equals 6 = .ok (.goto 4, 3) := dk_167 0 4 (dk_at dksJ28_equals_0 6 rfl rfl)
theorem dJ28_equals_9 : decode cJ28_equals 9 = .ok (.iconst 0, 1) := dk_3 (dk_at dksJ28_equals_0 9 rfl rfl)
theorem dJ28_equals_10 : decode cJ28_equals 10 = .ok (.ireturn, 1) := dk_172 (dk_at dksJ28_equals_0 10 rfl rfl)
abbrev cJ28_compareTo : ByteArray := prog_35_method_15_code
def yJ28_compareTo : MethodName := ⟨RJ28, "compareTo", "(Ljava/lang/Object;)I"⟩
def dkwJ28_compareTo_0 : List UInt8 := [42, 43, 192, 0, 2, 182, 0, 101, 172]
abbrev dktJ28_compareTo_0 : List UInt8 := dkwJ28_compareTo_0 ++ []
theorem dksJ28_compareTo_0 : cJ28_compareTo.data.toList.drop 0 = dktJ28_compareTo_0 := by decide +kernel
theorem dJ28_compareTo_0 : decode cJ28_compareTo 0 = .ok (.aload_n 0, 1) := dk_42 (dk_at dksJ28_compareTo_0 0 rfl rfl)
theorem dJ28_compareTo_1 : decode cJ28_compareTo 1 = .ok (.aload_n 1, 1) := dk_43 (dk_at dksJ28_compareTo_0 1 rfl rfl)
theorem dJ28_compareTo_2 : decode cJ28_compareTo 2 = .ok (.checkcast 2, 3) := dk_192 0 2 (dk_at dksJ28_compareTo_0 2 rfl rfl)
theorem dJ28_compareTo_5 : decode cJ28_compareTo 5 = .ok (.invokevirtual 101, 3) := dk_182 0 101 (dk_at dksJ28_compareTo_0 5 rfl rfl)
theorem dJ28_compareTo_8 : decode cJ28_compareTo 8 = .ok (.ireturn, 1) := dk_172 (dk_at dksJ28_compareTo_0 8 rfl rfl)
abbrev cJ28_compareTo_2 : ByteArray := prog_35_method_8_code
def yJ28_compareTo_2 : MethodName := ⟨RJ28, "compareTo", "(Ljava/lang/Enum;)I"⟩
def dkwJ28_compareTo_2_1 : List UInt8 := [165, 0, 11, 187, 0, 36, 89, 183, 0, 38, 191, 45, 180, 0, 7, 44, 180, 0, 7, 100, 172]
abbrev dktJ28_compareTo_2_1 : List UInt8 := dkwJ28_compareTo_2_1 ++ []
def dkwJ28_compareTo_2_0 : List UInt8 := [43, 77, 42, 78, 45, 182, 0, 29, 44, 182, 0, 29, 165, 0, 22, 45, 182, 0, 33, 44, 182, 0, 33]
abbrev dktJ28_compareTo_2_0 : List UInt8 := dkwJ28_compareTo_2_0 ++ dktJ28_compareTo_2_1
theorem dksJ28_compareTo_2_0 : cJ28_compareTo_2.data.toList.drop 0 = dktJ28_compareTo_2_0 := by decide +kernel
theorem dksJ28_compareTo_2_1 : cJ28_compareTo_2.data.toList.drop 23 = dktJ28_compareTo_2_1 := dk_seg dksJ28_compareTo_2_0 23 rfl rfl
theorem dJ28_compareTo_2_0 : decode cJ28_compareTo_2 0 = .ok (.aload_n 1, 1) := dk_43 (dk_at dksJ28_compareTo_2_0 0 rfl rfl)
theorem dJ28_compareTo_2_1 : decode cJ28_compareTo_2 1 = .ok (.astore_n 2, 1) := dk_77 (dk_at dksJ28_compareTo_2_0 1 rfl rfl)
theorem dJ28_compareTo_2_2 : decode cJ28_compareTo_2 2 = .ok (.aload_n 0, 1) := dk_42 (dk_at dksJ28_compareTo_2_0 2 rfl rfl)
theorem dJ28_compareTo_2_3 : decode cJ28_compareTo_2 3 = .ok (.astore_n 3, 1) := dk_78 (dk_at dksJ28_compareTo_2_0 3 rfl rfl)
theorem dJ28_compareTo_2_4 : decode cJ28_compareTo_2 4 = .ok (.aload_n 3, 1) := dk_45 (dk_at dksJ28_compareTo_2_0 4 rfl rfl)
theorem dJ28_compareTo_2_5 : decode cJ28_compareTo_2 5 = .ok (.invokevirtual 29, 3) := dk_182 0 29 (dk_at dksJ28_compareTo_2_0 5 rfl rfl)
theorem dJ28_compareTo_2_8 : decode cJ28_compareTo_2 8 = .ok (.aload_n 2, 1) := dk_44 (dk_at dksJ28_compareTo_2_0 8 rfl rfl)
theorem dJ28_compareTo_2_9 : decode cJ28_compareTo_2 9 = .ok (.invokevirtual 29, 3) := dk_182 0 29 (dk_at dksJ28_compareTo_2_0 9 rfl rfl)
theorem dJ28_compareTo_2_12 : decode cJ28_compareTo_2 12 = .ok (.if_acmp .eq 22, 3) := dk_165 0 22 (dk_at dksJ28_compareTo_2_0 12 rfl rfl)
theorem dJ28_compareTo_2_15 : decode cJ28_compareTo_2 15 = .ok (.aload_n 3, 1) := dk_45 (dk_at dksJ28_compareTo_2_0 15 rfl rfl)
theorem dJ28_compareTo_2_16 : decode cJ28_compareTo_2 16 = .ok (.invokevirtual 33, 3) := dk_182 0 33 (dk_at dksJ28_compareTo_2_0 16 rfl rfl)
theorem dJ28_compareTo_2_19 : decode cJ28_compareTo_2 19 = .ok (.aload_n 2, 1) := dk_44 (dk_at dksJ28_compareTo_2_0 19 rfl rfl)
theorem dJ28_compareTo_2_20 : decode cJ28_compareTo_2 20 = .ok (.invokevirtual 33, 3) := dk_182 0 33 (dk_at dksJ28_compareTo_2_0 20 rfl rfl)
theorem dJ28_compareTo_2_23 : decode cJ28_compareTo_2 23 = .ok (.if_acmp .eq 11, 3) := dk_165 0 11 (dk_at dksJ28_compareTo_2_1 0 rfl rfl)
theorem dJ28_compareTo_2_26 : decode cJ28_compareTo_2 26 = .ok (.new 36, 3) := dk_187 0 36 (dk_at dksJ28_compareTo_2_1 3 rfl rfl)
theorem dJ28_compareTo_2_29 : decode cJ28_compareTo_2 29 = .ok (.dup, 1) := dk_89 (dk_at dksJ28_compareTo_2_1 6 rfl rfl)
theorem dJ28_compareTo_2_30 : decode cJ28_compareTo_2 30 = .ok (.invokespecial 38, 3) := dk_183 0 38 (dk_at dksJ28_compareTo_2_1 7 rfl rfl)
theorem dJ28_compareTo_2_33 : decode cJ28_compareTo_2 33 = .ok (.athrow, 1) := dk_191 (dk_at dksJ28_compareTo_2_1 10 rfl rfl)
theorem dJ28_compareTo_2_34 : decode cJ28_compareTo_2 34 = .ok (.aload_n 3, 1) := dk_45 (dk_at dksJ28_compareTo_2_1 11 rfl rfl)
theorem dJ28_compareTo_2_35 : decode cJ28_compareTo_2 35 = .ok (.getfield 7, 3) := dk_180 0 7 (dk_at dksJ28_compareTo_2_1 12 rfl rfl)
theorem dJ28_compareTo_2_38 : decode cJ28_compareTo_2 38 = .ok (.aload_n 2, 1) := dk_44 (dk_at dksJ28_compareTo_2_1 15 rfl rfl)
theorem dJ28_compareTo_2_39 : decode cJ28_compareTo_2 39 = .ok (.getfield 7, 3) := dk_180 0 7 (dk_at dksJ28_compareTo_2_1 16 rfl rfl)
theorem dJ28_compareTo_2_42 : decode cJ28_compareTo_2 42 = .ok (.isub, 1) := dk_100 (dk_at dksJ28_compareTo_2_1 19 rfl rfl)
theorem dJ28_compareTo_2_43 : decode cJ28_compareTo_2 43 = .ok (.ireturn, 1) := dk_172 (dk_at dksJ28_compareTo_2_1 20 rfl rfl)
abbrev cJ28_getDeclaringClass : ByteArray := prog_35_method_9_code
def yJ28_getDeclaringClass : MethodName := ⟨RJ28, "getDeclaringClass", "()Ljava/lang/Class;"⟩
def dkwJ28_getDeclaringClass_0 : List UInt8 := [42, 182, 0, 29, 76, 43, 182, 0, 39, 77, 44, 18, 2, 166, 0, 7, 43, 167, 0, 4, 44, 176]
abbrev dktJ28_getDeclaringClass_0 : List UInt8 := dkwJ28_getDeclaringClass_0 ++ []
theorem dksJ28_getDeclaringClass_0 : cJ28_getDeclaringClass.data.toList.drop 0 = dktJ28_getDeclaringClass_0 := by decide +kernel
theorem dJ28_getDeclaringClass_0 : decode cJ28_getDeclaringClass 0 = .ok (.aload_n 0, 1) := dk_42 (dk_at dksJ28_getDeclaringClass_0 0 rfl rfl)
theorem dJ28_getDeclaringClass_1 : decode cJ28_getDeclaringClass 1 = .ok (.invokevirtual 29, 3) := dk_182 0 29 (dk_at dksJ28_getDeclaringClass_0 1 rfl rfl)
theorem dJ28_getDeclaringClass_4 : decode cJ28_getDeclaringClass 4 = .ok (.astore_n 1, 1) := dk_76 (dk_at dksJ28_getDeclaringClass_0 4 rfl rfl)
theorem dJ28_getDeclaringClass_5 : decode cJ28_getDeclaringClass 5 = .ok (.aload_n 1, 1) := dk_43 (dk_at dksJ28_getDeclaringClass_0 5 rfl rfl)
theorem dJ28_getDeclaringClass_6 : decode cJ28_getDeclaringClass 6 = .ok (.invokevirtual 39, 3) := dk_182 0 39 (dk_at dksJ28_getDeclaringClass_0 6 rfl rfl)
theorem dJ28_getDeclaringClass_9 : decode cJ28_getDeclaringClass 9 = .ok (.astore_n 2, 1) := dk_77 (dk_at dksJ28_getDeclaringClass_0 9 rfl rfl)
theorem dJ28_getDeclaringClass_10 : decode cJ28_getDeclaringClass 10 = .ok (.aload_n 2, 1) := dk_44 (dk_at dksJ28_getDeclaringClass_0 10 rfl rfl)
theorem dJ28_getDeclaringClass_11 : decode cJ28_getDeclaringClass 11 = .ok (.ldc 2, 2) := dk_18 2 (dk_at dksJ28_getDeclaringClass_0 11 rfl rfl)
theorem dJ28_getDeclaringClass_13 : decode cJ28_getDeclaringClass 13 = .ok (.if_acmp .ne 7, 3) := dk_166 0 7 (dk_at dksJ28_getDeclaringClass_0 13 rfl rfl)
theorem dJ28_getDeclaringClass_16 : decode cJ28_getDeclaringClass 16 = .ok (.aload_n 1, 1) := dk_43 (dk_at dksJ28_getDeclaringClass_0 16 rfl rfl)
theorem dJ28_getDeclaringClass_17 : decode cJ28_getDeclaringClass 17 = .ok (.goto 4, 3) := dk_167 0 4 (dk_at dksJ28_getDeclaringClass_0 17 rfl rfl)
theorem dJ28_getDeclaringClass_20 : decode cJ28_getDeclaringClass 20 = .ok (.aload_n 2, 1) := dk_44 (dk_at dksJ28_getDeclaringClass_0 20 rfl rfl)
theorem dJ28_getDeclaringClass_21 : decode cJ28_getDeclaringClass 21 = .ok (.areturn, 1) := dk_176 (dk_at dksJ28_getDeclaringClass_0 21 rfl rfl)
theorem q113 : (Jvm.Cond.initialized "java/lang/Enum") ∈ lw_all := lw_g (lw_at lw_m1 41 rfl) rfl
theorem q1738 : (Jvm.Cond.declares ({ cls := "java/lang/Enum", name := "ordinal", desc := "()I" } : Jvm.MethodName)) ∈ lw_tbl := lw_at lw_m7 226 rfl
theorem q1744 : (Jvm.Cond.instanceMethod ({ cls := "java/lang/Enum", name := "ordinal", desc := "()I" } : Jvm.MethodName)) ∈ lw_all := lw_g (lw_at lw_m7 232 rfl) rfl
theorem q1745 : (Jvm.Cond.code ({ cls := "java/lang/Enum", name := "ordinal", desc := "()I" } : Jvm.MethodName) prog_35_method_2_code (1 : Nat) (Option.some Jvm.ClassFile.FieldType.int)) ∈ lw_all := lw_g (lw_at lw_m7 233 rfl) rfl
theorem q1827 : (Jvm.Cond.instanceMethod ({ cls := "java/lang/Enum", name := "hashCode", desc := "()I" } : Jvm.MethodName)) ∈ lw_all := lw_g (lw_at lw_m8 75 rfl) rfl
theorem q1828 : (Jvm.Cond.code ({ cls := "java/lang/Enum", name := "hashCode", desc := "()I" } : Jvm.MethodName) prog_35_method_6_code (2 : Nat) (Option.some Jvm.ClassFile.FieldType.int)) ∈ lw_all := lw_g (lw_at lw_m8 76 rfl) rfl
theorem q1829 : (Jvm.Cond.methodLink "java/lang/Enum" (20 : Nat) ({ cls := "java/lang/System", name := "identityHashCode", desc := "(Ljava/lang/Object;)I" } : Jvm.MethodName)) ∈ lw_all := lw_g (lw_at lw_m8 77 rfl) rfl
theorem q1928 : (Jvm.Cond.instanceMethod ({ cls := "java/lang/Enum", name := "equals", desc := "(Ljava/lang/Object;)Z" } : Jvm.MethodName)) ∈ lw_all := lw_g (lw_at lw_m8 176 rfl) rfl
theorem q1929 : (Jvm.Cond.code ({ cls := "java/lang/Enum", name := "equals", desc := "(Ljava/lang/Object;)Z" } : Jvm.MethodName) prog_35_method_5_code (2 : Nat) (Option.some Jvm.ClassFile.FieldType.boolean)) ∈ lw_all := lw_g (lw_at lw_m8 177 rfl) rfl
theorem q1992 : (Jvm.Cond.instanceMethod ({ cls := "java/lang/Enum", name := "compareTo", desc := "(Ljava/lang/Object;)I" } : Jvm.MethodName)) ∈ lw_all := lw_g (lw_at lw_m9 0 rfl) rfl
theorem q1993 : (Jvm.Cond.publicMethod ({ cls := "java/lang/Enum", name := "compareTo", desc := "(Ljava/lang/Object;)I" } : Jvm.MethodName)) ∈ lw_tbl := lw_at lw_m9 1 rfl
theorem q1994 : (Jvm.Cond.code ({ cls := "java/lang/Enum", name := "compareTo", desc := "(Ljava/lang/Object;)I" } : Jvm.MethodName) prog_35_method_15_code (2 : Nat) (Option.some Jvm.ClassFile.FieldType.int)) ∈ lw_all := lw_g (lw_at lw_m9 2 rfl) rfl
theorem q1995 : (Jvm.Cond.classLink "java/lang/Enum" (2 : Nat) "java/lang/Enum") ∈ lw_all := lw_g (lw_at lw_m9 3 rfl) rfl
theorem q1996 : (Jvm.Cond.methodLink "java/lang/Enum" (101 : Nat) ({ cls := "java/lang/Enum", name := "compareTo", desc := "(Ljava/lang/Enum;)I" } : Jvm.MethodName)) ∈ lw_all := lw_g (lw_at lw_m9 4 rfl) rfl
theorem q1997 : (Jvm.Cond.instanceMethod ({ cls := "java/lang/Enum", name := "compareTo", desc := "(Ljava/lang/Enum;)I" } : Jvm.MethodName)) ∈ lw_all := lw_g (lw_at lw_m9 5 rfl) rfl
theorem q1998 : (Jvm.Cond.sameMethod "java/lang/Enum" "java/lang/Enum" "compareTo" "(Ljava/lang/Enum;)I") ∈ lw_all := lw_g (lw_at lw_m9 6 rfl) rfl
theorem q2004 : (Jvm.Cond.code ({ cls := "java/lang/Enum", name := "compareTo", desc := "(Ljava/lang/Enum;)I" } : Jvm.MethodName) prog_35_method_8_code (4 : Nat) (Option.some Jvm.ClassFile.FieldType.int)) ∈ lw_all := lw_g (lw_at lw_m9 12 rfl) rfl
theorem q2005 : (Jvm.Cond.methodLink "java/lang/Enum" (29 : Nat) ({ cls := "java/lang/Object", name := "getClass", desc := "()Ljava/lang/Class;" } : Jvm.MethodName)) ∈ lw_all := lw_g (lw_at lw_m9 13 rfl) rfl
theorem q2006 : (Jvm.Cond.methodLink "java/lang/Enum" (33 : Nat) ({ cls := "java/lang/Enum", name := "getDeclaringClass", desc := "()Ljava/lang/Class;" } : Jvm.MethodName)) ∈ lw_all := lw_g (lw_at lw_m9 14 rfl) rfl
theorem q2007 : (Jvm.Cond.instanceMethod ({ cls := "java/lang/Enum", name := "getDeclaringClass", desc := "()Ljava/lang/Class;" } : Jvm.MethodName)) ∈ lw_all := lw_g (lw_at lw_m9 15 rfl) rfl
theorem q2008 : (Jvm.Cond.sameMethod "java/lang/Enum" "java/lang/Enum" "getDeclaringClass" "()Ljava/lang/Class;") ∈ lw_all := lw_g (lw_at lw_m9 16 rfl) rfl
theorem q2014 : (Jvm.Cond.code ({ cls := "java/lang/Enum", name := "getDeclaringClass", desc := "()Ljava/lang/Class;" } : Jvm.MethodName) prog_35_method_9_code (3 : Nat) (Option.some (Jvm.ClassFile.FieldType.object "java/lang/Class"))) ∈ lw_all := lw_g (lw_at lw_m9 22 rfl) rfl
theorem q3205 : (Jvm.Cond.fieldLink "java/lang/Enum" (7 : Nat) "java/lang/Enum" "ordinal" "I") ∈ lw_all := lw_g (lw_at lw_m14 13 rfl) rfl
theorem q3206 : (Jvm.Cond.fieldLink "java/lang/Enum" (17 : Nat) "java/lang/Enum" "hash" "I") ∈ lw_all := lw_g (lw_at lw_m14 14 rfl) rfl
/-! java/util/AbstractMap -/
set_option maxRecDepth 100000
def RJ29 : String := "java/util/AbstractMap"
abbrev cJ29_init : ByteArray := prog_60_method_1_code
def yJ29_init : MethodName := ⟨RJ29, "<init>", "()V"⟩
theorem dJ29_init_0 : decode cJ29_init 0 = .ok (.aload_n 0, 1) := by decide +kernel
theorem dJ29_init_1 : decode cJ29_init 1 = .ok (.invokespecial 1, 3) := by decide +kernel
theorem dJ29_init_4 : decode cJ29_init 4 = .ok (.return_, 1) := by decide +kernel
theorem q120 : (Jvm.Cond.initialized "java/util/AbstractMap") ∈ lw_all := lw_g (lw_at lw_m1 48 rfl) rfl
theorem q1771 : (Jvm.Cond.instanceMethod ({ cls := "java/util/AbstractMap", name := "<init>", desc := "()V" } : Jvm.MethodName)) ∈ lw_all := lw_g (lw_at lw_m8 19 rfl) rfl
theorem q1772 : (Jvm.Cond.code ({ cls := "java/util/AbstractMap", name := "<init>", desc := "()V" } : Jvm.MethodName) prog_60_method_1_code (1 : Nat) (Option.none : Option Jvm.ClassFile.FieldType)) ∈ lw_all := lw_g (lw_at lw_m8 20 rfl) rfl
theorem q1773 : (Jvm.Cond.methodLink "java/util/AbstractMap" (1 : Nat) ({ cls := "java/lang/Object", name := "<init>", desc := "()V" } : Jvm.MethodName)) ∈ lw_all := lw_g (lw_at lw_m8 21 rfl) rfl
theorem q1793 : (Jvm.Cond.soleField "java/util/AbstractMap" "keySet") ∈ lw_all := lw_g (lw_at lw_m8 41 rfl) rfl
theorem q1795 : (Jvm.Cond.soleField "java/util/AbstractMap" "values") ∈ lw_all := lw_g (lw_at lw_m8 43 rfl) rfl
/-! java/util/HashMap -/
set_option maxRecDepth 100000
def RJ30 : String := "java/util/HashMap"
def TJ30 : u_T := fun k => match k with
  | 0 => ("java/util/AbstractMap", "keySet", "Ljava/util/Set;", false)
  | 1 => ("java/util/AbstractMap", "values", "Ljava/util/Collection;", false)
  | 2 => ("java/util/HashMap", "table", "[Ljava/util/HashMap$Node;", false)
  | 3 => ("java/util/HashMap", "entrySet", "Ljava/util/Set;", false)
  | 4 => ("java/util/HashMap", "size", "I", false)
  | 5 => ("java/util/HashMap", "modCount", "I", false)
  | 6 => ("java/util/HashMap", "threshold", "I", false)
  | _ => ("java/util/HashMap", "loadFactor", "F", true)
def tyJ30 : Nat → FieldType := fun k => match k with
  | 0 => .object "java/util/Set"
  | 1 => .object "java/util/Collection"
  | 2 => .array (.object "java/util/HashMap$Node")
  | 3 => .object "java/util/Set"
  | 4 => .int
  | 5 => .int
  | 6 => .int
  | _ => .float
abbrev wsJ300 : List Cond := u_ws RJ30 TJ30 8
theorem nmJ30 : ∀ a, a < 8 → ∀ b, b < 8 → a ≠ b → (TJ30 a).2.1 ≠ (TJ30 b).2.1 := by decide +kernel
theorem tyJ30_ok : ∀ k, k < 8 → parseFieldDescriptor (TJ30 k).2.2.1 = some (tyJ30 k) := by decide +kernel
abbrev cJ30_init : ByteArray := prog_68_method_7_code
def yJ30_init : MethodName := ⟨RJ30, "<init>", "()V"⟩
def dkwJ30_init_0 : List UInt8 := [42, 183, 0, 43, 42, 18, 92, 181, 0, 81, 177]
abbrev dktJ30_init_0 : List UInt8 := dkwJ30_init_0 ++ []
theorem dksJ30_init_0 : cJ30_init.data.toList.drop 0 = dktJ30_init_0 := by decide +kernel
theorem dJ30_init_0 : decode cJ30_init 0 = .ok (.aload_n 0, 1) := dk_42 (dk_at dksJ30_init_0 0 rfl rfl)
theorem dJ30_init_1 : decode cJ30_init 1 = .ok (.invokespecial 43, 3) := dk_183 0 43 (dk_at dksJ30_init_0 1 rfl rfl)
theorem dJ30_init_4 : decode cJ30_init 4 = .ok (.aload_n 0, 1) := dk_42 (dk_at dksJ30_init_0 4 rfl rfl)
theorem dJ30_init_5 : decode cJ30_init 5 = .ok (.ldc 92, 2) := dk_18 92 (dk_at dksJ30_init_0 5 rfl rfl)
theorem dJ30_init_7 : decode cJ30_init 7 = .ok (.putfield 81, 3) := dk_181 0 81 (dk_at dksJ30_init_0 7 rfl rfl)
theorem dJ30_init_10 : decode cJ30_init 10 = .ok (.return_, 1) := dk_177 (dk_at dksJ30_init_0 10 rfl rfl)
abbrev cJ30_get : ByteArray := prog_68_method_12_code
def yJ30_get : MethodName := ⟨RJ30, "get", "(Ljava/lang/Object;)Ljava/lang/Object;"⟩
def dkwJ30_get_0 : List UInt8 := [42, 43, 182, 0, 158, 89, 77, 199, 0, 7, 1, 167, 0, 7, 44, 180, 0, 162, 176]
abbrev dktJ30_get_0 : List UInt8 := dkwJ30_get_0 ++ []
theorem dksJ30_get_0 : cJ30_get.data.toList.drop 0 = dktJ30_get_0 := by decide +kernel
theorem dJ30_get_0 : decode cJ30_get 0 = .ok (.aload_n 0, 1) := dk_42 (dk_at dksJ30_get_0 0 rfl rfl)
theorem dJ30_get_1 : decode cJ30_get 1 = .ok (.aload_n 1, 1) := dk_43 (dk_at dksJ30_get_0 1 rfl rfl)
theorem dJ30_get_2 : decode cJ30_get 2 = .ok (.invokevirtual 158, 3) := dk_182 0 158 (dk_at dksJ30_get_0 2 rfl rfl)
theorem dJ30_get_5 : decode cJ30_get 5 = .ok (.dup, 1) := dk_89 (dk_at dksJ30_get_0 5 rfl rfl)
theorem dJ30_get_6 : decode cJ30_get 6 = .ok (.astore_n 2, 1) := dk_77 (dk_at dksJ30_get_0 6 rfl rfl)
theorem dJ30_get_7 : decode cJ30_get 7 = .ok (.ifnonnull 7, 3) := dk_199 0 7 (dk_at dksJ30_get_0 7 rfl rfl)
theorem dJ30_get_10 : decode cJ30_get 10 = .ok (.aconst_null, 1) := dk_1 (dk_at dksJ30_get_0 10 rfl rfl)
theorem dJ30_get_11 : decode cJ30_get 11 = .ok (.goto 7, 3) := dk_167 0 7 (dk_at dksJ30_get_0 11 rfl rfl)
theorem dJ30_get_14 : decode cJ30_get 14 = .ok (.aload_n 2, 1) := dk_44 (dk_at dksJ30_get_0 14 rfl rfl)
theorem dJ30_get_15 : decode cJ30_get 15 = .ok (.getfield 162, 3) := dk_180 0 162 (dk_at dksJ30_get_0 15 rfl rfl)
theorem dJ30_get_18 : decode cJ30_get 18 = .ok (.areturn, 1) := dk_176 (dk_at dksJ30_get_0 18 rfl rfl)
abbrev cJ30_getNode : ByteArray := prog_68_method_13_code
def yJ30_getNode : MethodName := ⟨RJ30, "getNode", "(Ljava/lang/Object;)Ljava/util/HashMap$Node;"⟩
def dkwJ30_getNode_6 : List UInt8 := [89, 58, 4, 199, 255, 210, 1, 176]
abbrev dktJ30_getNode_6 : List UInt8 := dkwJ30_getNode_6 ++ []
def dkwJ30_getNode_5 : List UInt8 := [165, 0, 16, 43, 198, 0, 15, 43, 25, 7, 182, 0, 173, 153, 0, 6, 25, 4, 176, 25, 4, 180, 0, 177]
abbrev dktJ30_getNode_5 : List UInt8 := dkwJ30_getNode_5 ++ dktJ30_getNode_6
def dkwJ30_getNode_4 : List UInt8 := [43, 182, 0, 182, 176, 25, 4, 180, 0, 168, 21, 6, 160, 0, 31, 25, 4, 180, 0, 170, 89, 58, 7, 43]
abbrev dktJ30_getNode_4 : List UInt8 := dkwJ30_getNode_4 ++ dktJ30_getNode_5
def dkwJ30_getNode_3 : List UInt8 := [176, 45, 180, 0, 177, 89, 58, 4, 198, 0, 70, 45, 193, 0, 180, 153, 0, 14, 45, 192, 0, 180, 21, 6]
abbrev dktJ30_getNode_3 : List UInt8 := dkwJ30_getNode_3 ++ dktJ30_getNode_4
def dkwJ30_getNode_2 : List UInt8 := [180, 0, 170, 89, 58, 7, 43, 165, 0, 16, 43, 198, 0, 14, 43, 25, 7, 182, 0, 173, 153, 0, 5, 45]
abbrev dktJ30_getNode_2 : List UInt8 := dkwJ30_getNode_2 ++ dktJ30_getNode_3
def dkwJ30_getNode_1 : List UInt8 := [184, 0, 149, 89, 54, 6, 126, 50, 89, 78, 198, 0, 115, 45, 180, 0, 168, 21, 6, 160, 0, 29, 45]
abbrev dktJ30_getNode_1 : List UInt8 := dkwJ30_getNode_1 ++ dktJ30_getNode_2
def dkwJ30_getNode_0 : List UInt8 := [42, 180, 0, 105, 89, 77, 198, 0, 142, 44, 190, 89, 54, 5, 158, 0, 134, 44, 21, 5, 4, 100, 43]
abbrev dktJ30_getNode_0 : List UInt8 := dkwJ30_getNode_0 ++ dktJ30_getNode_1
theorem dksJ30_getNode_0 : cJ30_getNode.data.toList.drop 0 = dktJ30_getNode_0 := by decide +kernel
theorem dksJ30_getNode_1 : cJ30_getNode.data.toList.drop 23 = dktJ30_getNode_1 := dk_seg dksJ30_getNode_0 23 rfl rfl
theorem dksJ30_getNode_2 : cJ30_getNode.data.toList.drop 46 = dktJ30_getNode_2 := dk_seg dksJ30_getNode_1 23 rfl rfl
theorem dksJ30_getNode_3 : cJ30_getNode.data.toList.drop 70 = dktJ30_getNode_3 := dk_seg dksJ30_getNode_2 24 rfl rfl
theorem dksJ30_getNode_4 : cJ30_getNode.data.toList.drop 94 = dktJ30_getNode_4 := dk_seg dksJ30_getNode_3 24 rfl rfl
theorem dksJ30_getNode_5 : cJ30_getNode.data.toList.drop 118 = dktJ30_getNode_5 := dk_seg dksJ30_getNode_4 24 rfl rfl
theorem dksJ30_getNode_6 : cJ30_getNode.data.toList.drop 142 = dktJ30_getNode_6 := dk_seg dksJ30_getNode_5 24 rfl rfl
theorem dJ30_getNode_0 : decode cJ30_getNode 0 = .ok (.aload_n 0, 1) := dk_42 (dk_at dksJ30_getNode_0 0 rfl rfl)
theorem dJ30_getNode_1 : decode cJ30_getNode 1 = .ok (.getfield 105, 3) := dk_180 0 105 (dk_at dksJ30_getNode_0 1 rfl rfl)
theorem dJ30_getNode_4 : decode cJ30_getNode 4 = .ok (.dup, 1) := dk_89 (dk_at dksJ30_getNode_0 4 rfl rfl)
theorem dJ30_getNode_5 : decode cJ30_getNode 5 = .ok (.astore_n 2, 1) := dk_77 (dk_at dksJ30_getNode_0 5 rfl rfl)
theorem dJ30_getNode_6 : decode cJ30_getNode 6 = .ok (.ifnull 142, 3) := dk_198 0 142 (dk_at dksJ30_getNode_0 6 rfl rfl)
theorem dJ30_getNode_9 : decode cJ30_getNode 9 = .ok (.aload_n 2, 1) := dk_44 (dk_at dksJ30_getNode_0 9 rfl rfl)
theorem dJ30_getNode_10 : decode cJ30_getNode 10 = .ok (.arraylength, 1) := dk_190 (dk_at dksJ30_getNode_0 10 rfl rfl)
theorem dJ30_getNode_11 : decode cJ30_getNode 11 = .ok (.dup, 1) := dk_89 (dk_at dksJ30_getNode_0 11 rfl rfl)
theorem dJ30_getNode_12 : decode cJ30_getNode 12 = .ok (.istore 5, 2) := dk_54 5 (dk_at dksJ30_getNode_0 12 rfl rfl)
theorem dJ30_getNode_14 : decode cJ30_getNode 14 = .ok (.ifCond .le 134, 3) := dk_158 0 134 (dk_at dksJ30_getNode_0 14 rfl rfl)
theorem dJ30_getNode_17 : decode cJ30_getNode 17 = .ok (.aload_n 2, 1) := dk_44 (dk_at dksJ30_getNode_0 17 rfl rfl)
theorem dJ30_getNode_18 : decode cJ30_getNode 18 = .ok (.iload 5, 2) := dk_21 5 (dk_at dksJ30_getNode_0 18 rfl rfl)
theorem dJ30_getNode_20 : decode cJ30_getNode 20 = .ok (.iconst 1, 1) := dk_4 (dk_at dksJ30_getNode_0 20 rfl rfl)
theorem dJ30_getNode_21 : decode cJ30_getNode 21 = .ok (.isub, 1) := dk_100 (dk_at dksJ30_getNode_0 21 rfl rfl)
theorem dJ30_getNode_22 : decode cJ30_getNode 22 = .ok (.aload_n 1, 1) := dk_43 (dk_at dksJ30_getNode_0 22 rfl rfl)
theorem dJ30_getNode_23 : decode cJ30_getNode 23 = .ok (.invokestatic 149, 3) := dk_184 0 149 (dk_at dksJ30_getNode_1 0 rfl rfl)
theorem dJ30_getNode_26 : decode cJ30_getNode 26 = .ok (.dup, 1) := dk_89 (dk_at dksJ30_getNode_1 3 rfl rfl)
theorem dJ30_getNode_27 : decode cJ30_getNode 27 = .ok (.istore 6, 2) := dk_54 6 (dk_at dksJ30_getNode_1 4 rfl rfl)
theorem dJ30_getNode_29 : decode cJ30_getNode 29 = .ok (.iand, 1) := dk_126 (dk_at dksJ30_getNode_1 6 rfl rfl)
theorem dJ30_getNode_30 : decode cJ30_getNode 30 = .ok (.aaload, 1) := dk_50 (dk_at dksJ30_getNode_1 7 rfl rfl)
theorem dJ30_getNode_31 : decode cJ30_getNode 31 = .ok (.dup, 1) := dk_89 (dk_at dksJ30_getNode_1 8 rfl rfl)
theorem dJ30_getNode_32 : decode cJ30_getNode 32 = .ok (.astore_n 3, 1) := dk_78 (dk_at dksJ30_getNode_1 9 rfl rfl)
theorem dJ30_getNode_33 : decode cJ30_getNode 33 = .ok (.ifnull 115, 3) := dk_198 0 115 (dk_at dksJ30_getNode_1 10 rfl rfl)
theorem dJ30_getNode_36 : decode cJ30_getNode 36 = .ok (.aload_n 3, 1) := dk_45 (dk_at dksJ30_getNode_1 13 rfl rfl)
theorem dJ30_getNode_37 : decode cJ30_getNode 37 = .ok (.getfield 168, 3) := dk_180 0 168 (dk_at dksJ30_getNode_1 14 rfl rfl)
theorem dJ30_getNode_40 : decode cJ30_getNode 40 = .ok (.iload 6, 2) := dk_21 6 (dk_at dksJ30_getNode_1 17 rfl rfl)
theorem dJ30_getNode_42 : decode cJ30_getNode 42 = .ok (.if_icmp .ne 29, 3) := dk_160 0 29 (dk_at dksJ30_getNode_1 19 rfl rfl)
theorem dJ30_getNode_45 : decode cJ30_getNode 45 = .ok (.aload_n 3, 1) := dk_45 (dk_at dksJ30_getNode_1 22 rfl rfl)
theorem dJ30_getNode_46 : decode cJ30_getNode 46 = .ok (.getfield 170, 3) := dk_180 0 170 (dk_at dksJ30_getNode_2 0 rfl rfl)
theorem dJ30_getNode_49 : decode cJ30_getNode 49 = .ok (.dup, 1) := dk_89 (dk_at dksJ30_getNode_2 3 rfl rfl)
theorem dJ30_getNode_50 : decode cJ30_getNode 50 = .ok (.astore 7, 2) := dk_58 7 (dk_at dksJ30_getNode_2 4 rfl rfl)
theorem dJ30_getNode_52 : decode cJ30_getNode 52 = .ok (.aload_n 1, 1) := dk_43 (dk_at dksJ30_getNode_2 6 rfl rfl)
theorem dJ30_getNode_53 : decode cJ30_getNode 53 = .ok (.if_acmp .eq 16, 3) := dk_165 0 16 (dk_at dksJ30_getNode_2 7 rfl rfl)
theorem dJ30_getNode_56 : decode cJ30_getNode 56 = .ok (.aload_n 1, 1) := dk_43 (dk_at dksJ30_getNode_2 10 rfl rfl)
theorem dJ30_getNode_57 : decode cJ30_getNode 57 = .ok (.ifnull 14, 3) := dk_198 0 14 (dk_at dksJ30_getNode_2 11 rfl rfl)
theorem dJ30_getNode_60 : decode cJ30_getNode 60 = .ok (.aload_n 1, 1) := dk_43 (dk_at dksJ30_getNode_2 14 rfl rfl)
theorem dJ30_getNode_61 : decode cJ30_getNode 61 = .ok (.aload 7, 2) := dk_25 7 (dk_at dksJ30_getNode_2 15 rfl rfl)
theorem dJ30_getNode_63 : decode cJ30_getNode 63 = .ok (.invokevirtual 173, 3) := dk_182 0 173 (dk_at dksJ30_getNode_2 17 rfl rfl)
theorem dJ30_getNode_66 : decode cJ30_getNode 66 = .ok (.ifCond .eq 5, 3) := dk_153 0 5 (dk_at dksJ30_getNode_2 20 rfl rfl)
theorem dJ30_getNode_69 : decode cJ30_getNode 69 = .ok (.aload_n 3, 1) := dk_45 (dk_at dksJ30_getNode_2 23 rfl rfl)
theorem dJ30_getNode_70 : decode cJ30_getNode 70 = .ok (.areturn, 1) := dk_176 (dk_at dksJ30_getNode_3 0 rfl rfl)
theorem dJ30_getNode_71 : decode cJ30_getNode 71 = .ok (.aload_n 3, 1) := dk_45 (dk_at dksJ30_getNode_3 1 rfl rfl)
theorem dJ30_getNode_72 : decode cJ30_getNode 72 = .ok (.getfield 177, 3) := dk_180 0 177 (dk_at dksJ30_getNode_3 2 rfl rfl)
theorem dJ30_getNode_75 : decode cJ30_getNode 75 = .ok (.dup, 1) := dk_89 (dk_at dksJ30_getNode_3 5 rfl rfl)
theorem dJ30_getNode_76 : decode cJ30_getNode 76 = .ok (.astore 4, 2) := dk_58 4 (dk_at dksJ30_getNode_3 6 rfl rfl)
theorem dJ30_getNode_78 : decode cJ30_getNode 78 = .ok (.ifnull 70, 3) := dk_198 0 70 (dk_at dksJ30_getNode_3 8 rfl rfl)
theorem dJ30_getNode_81 : decode cJ30_getNode 81 = .ok (.aload_n 3, 1) := dk_45 (dk_at dksJ30_getNode_3 11 rfl rfl)
theorem dJ30_getNode_82 : decode cJ30_getNode 82 = .ok (.instanceof 180, 3) := dk_193 0 180 (dk_at dksJ30_getNode_3 12 rfl rfl)
theorem dJ30_getNode_85 : decode cJ30_getNode 85 = .ok (.ifCond .eq 14, 3) := dk_153 0 14 (dk_at dksJ30_getNode_3 15 rfl rfl)
theorem dJ30_getNode_88 : decode cJ30_getNode 88 = .ok (.aload_n 3, 1) := dk_45 (dk_at dksJ30_getNode_3 18 rfl rfl)
theorem dJ30_getNode_89 : decode cJ30_getNode 89 = .ok (.checkcast 180, 3) := dk_192 0 180 (dk_at dksJ30_getNode_3 19 rfl rfl)
theorem dJ30_getNode_92 : decode cJ30_getNode 92 = .ok (.iload 6, 2) := dk_21 6 (dk_at dksJ30_getNode_3 22 rfl rfl)
theorem dJ30_getNode_94 : decode cJ30_getNode 94 = .ok (.aload_n 1, 1) := dk_43 (dk_at dksJ30_getNode_4 0 rfl rfl)
theorem dJ30_getNode_95 : decode cJ30_getNode 95 = .ok (.invokevirtual 182, 3) := dk_182 0 182 (dk_at dksJ30_getNode_4 1 rfl rfl)
theorem dJ30_getNode_98 : decode cJ30_getNode 98 = .ok (.areturn, 1) := dk_176 (dk_at dksJ30_getNode_4 4 rfl rfl)
theorem dJ30_getNode_99 : decode cJ30_getNode 99 = .ok (.aload 4, 2) := dk_25 4 (dk_at dksJ30_getNode_4 5 rfl rfl)
theorem dJ30_getNode_101 : decode cJ30_getNode 101 = .ok (.getfield 168, 3) := dk_180 0 168 (dk_at dksJ30_getNode_4 7 rfl rfl)
theorem dJ30_getNode_104 : decode cJ30_getNode 104 = .ok (.iload 6, 2) := dk_21 6 (dk_at dksJ30_getNode_4 10 rfl rfl)
theorem dJ30_getNode_106 : decode cJ30_getNode 106 = .ok (.if_icmp .ne 31, 3) := dk_160 0 31 (dk_at dksJ30_getNode_4 12 rfl rfl)
theorem dJ30_getNode_109 : decode cJ30_getNode 109 = .ok (.aload 4, 2) := dk_25 4 (dk_at dksJ30_getNode_4 15 rfl rfl)
theorem dJ30_getNode_111 : decode cJ30_getNode 111 = .ok (.getfield 170, 3) := dk_180 0 170 (dk_at dksJ30_getNode_4 17 rfl rfl)
theorem dJ30_getNode_114 : decode cJ30_getNode 114 = .ok (.dup, 1) := dk_89 (dk_at dksJ30_getNode_4 20 rfl rfl)
theorem dJ30_getNode_115 : decode cJ30_getNode 115 = .ok (.astore 7, 2) := dk_58 7 (dk_at dksJ30_getNode_4 21 rfl rfl)
theorem dJ30_getNode_117 : decode cJ30_getNode 117 = .ok (.aload_n 1, 1) := dk_43 (dk_at dksJ30_getNode_4 23 rfl rfl)
theorem dJ30_getNode_118 : decode cJ30_getNode 118 = .ok (.if_acmp .eq 16, 3) := dk_165 0 16 (dk_at dksJ30_getNode_5 0 rfl rfl)
theorem dJ30_getNode_121 : decode cJ30_getNode 121 = .ok (.aload_n 1, 1) := dk_43 (dk_at dksJ30_getNode_5 3 rfl rfl)
theorem dJ30_getNode_122 : decode cJ30_getNode 122 = .ok (.ifnull 15, 3) := dk_198 0 15 (dk_at dksJ30_getNode_5 4 rfl rfl)
theorem dJ30_getNode_125 : decode cJ30_getNode 125 = .ok (.aload_n 1, 1) := dk_43 (dk_at dksJ30_getNode_5 7 rfl rfl)
theorem dJ30_getNode_126 : decode cJ30_getNode 126 = .ok (.aload 7, 2) := dk_25 7 (dk_at dksJ30_getNode_5 8 rfl rfl)
theorem dJ30_getNode_128 : decode cJ30_getNode 128 = .ok (.invokevirtual 173, 3) := dk_182 0 173 (dk_at dksJ30_getNode_5 10 rfl rfl)
theorem dJ30_getNode_131 : decode cJ30_getNode 131 = .ok (.ifCond .eq 6, 3) := dk_153 0 6 (dk_at dksJ30_getNode_5 13 rfl rfl)
theorem dJ30_getNode_134 : decode cJ30_getNode 134 = .ok (.aload 4, 2) := dk_25 4 (dk_at dksJ30_getNode_5 16 rfl rfl)
theorem dJ30_getNode_136 : decode cJ30_getNode 136 = .ok (.areturn, 1) := dk_176 (dk_at dksJ30_getNode_5 18 rfl rfl)
theorem dJ30_getNode_137 : decode cJ30_getNode 137 = .ok (.aload 4, 2) := dk_25 4 (dk_at dksJ30_getNode_5 19 rfl rfl)
theorem dJ30_getNode_139 : decode cJ30_getNode 139 = .ok (.getfield 177, 3) := dk_180 0 177 (dk_at dksJ30_getNode_5 21 rfl rfl)
theorem dJ30_getNode_142 : decode cJ30_getNode 142 = .ok (.dup, 1) := dk_89 (dk_at dksJ30_getNode_6 0 rfl rfl)
theorem dJ30_getNode_143 : decode cJ30_getNode 143 = .ok (.astore 4, 2) := dk_58 4 (dk_at dksJ30_getNode_6 1 rfl rfl)
theorem dJ30_getNode_145 : decode cJ30_getNode 145 = .ok (.ifnonnull (-46), 3) := dk_199 255 210 (dk_at dksJ30_getNode_6 3 rfl rfl)
theorem dJ30_getNode_148 : decode cJ30_getNode 148 = .ok (.aconst_null, 1) := dk_1 (dk_at dksJ30_getNode_6 6 rfl rfl)
theorem dJ30_getNode_149 : decode cJ30_getNode 149 = .ok (.areturn, 1) := dk_176 (dk_at dksJ30_getNode_6 7 rfl rfl)
abbrev cJ30_hash : ByteArray := prog_68_method_1_code
def yJ30_hash : MethodName := ⟨RJ30, "hash", "(Ljava/lang/Object;)I"⟩
def dkwJ30_hash_0 : List UInt8 := [42, 199, 0, 7, 3, 167, 0, 14, 42, 182, 0, 1, 89, 60, 27, 16, 16, 124, 130, 172]
abbrev dktJ30_hash_0 : List UInt8 := dkwJ30_hash_0 ++ []
theorem dksJ30_hash_0 : cJ30_hash.data.toList.drop 0 = dktJ30_hash_0 := by decide +kernel
theorem dJ30_hash_0 : decode cJ30_hash 0 = .ok (.aload_n 0, 1) := dk_42 (dk_at dksJ30_hash_0 0 rfl rfl)
theorem dJ30_hash_1 : decode cJ30_hash 1 = .ok (.ifnonnull 7, 3) := dk_199 0 7 (dk_at dksJ30_hash_0 1 rfl rfl)
theorem dJ30_hash_4 : decode cJ30_hash 4 = .ok (.iconst 0, 1) := dk_3 (dk_at dksJ30_hash_0 4 rfl rfl)
theorem dJ30_hash_5 : decode cJ30_hash 5 = .ok (.goto 14, 3) := dk_167 0 14 (dk_at dksJ30_hash_0 5 rfl rfl)
theorem dJ30_hash_8 : decode cJ30_hash 8 = .ok (.aload_n 0, 1) := dk_42 (dk_at dksJ30_hash_0 8 rfl rfl)
theorem dJ30_hash_9 : decode cJ30_hash 9 = .ok (.invokevirtual 1, 3) := dk_182 0 1 (dk_at dksJ30_hash_0 9 rfl rfl)
theorem dJ30_hash_12 : decode cJ30_hash 12 = .ok (.dup, 1) := dk_89 (dk_at dksJ30_hash_0 12 rfl rfl)
theorem dJ30_hash_13 : decode cJ30_hash 13 = .ok (.istore_n 1, 1) := dk_60 (dk_at dksJ30_hash_0 13 rfl rfl)
theorem dJ30_hash_14 : decode cJ30_hash 14 = .ok (.iload_n 1, 1) := dk_27 (dk_at dksJ30_hash_0 14 rfl rfl)
theorem dJ30_hash_15 : decode cJ30_hash 15 = .ok (.bipush 16, 2) := dk_16 16 (dk_at dksJ30_hash_0 15 rfl rfl)
theorem dJ30_hash_17 : decode cJ30_hash 17 = .ok (.iushr, 1) := dk_124 (dk_at dksJ30_hash_0 17 rfl rfl)
theorem dJ30_hash_18 : decode cJ30_hash 18 = .ok (.ixor, 1) := dk_130 (dk_at dksJ30_hash_0 18 rfl rfl)
theorem dJ30_hash_19 : decode cJ30_hash 19 = .ok (.ireturn, 1) := dk_172 (dk_at dksJ30_hash_0 19 rfl rfl)
abbrev cJ30_comparableClassFor : ByteArray := prog_68_method_2_code
def yJ30_comparableClassFor : MethodName := ⟨RJ30, "comparableClassFor", "(Ljava/lang/Object;)Ljava/lang/Class;"⟩
def dkwJ30_comparableClassFor_4 : List UInt8 := [4, 160, 0, 12, 45, 3, 50, 43, 166, 0, 5, 43, 176, 132, 7, 1, 167, 255, 186, 1, 176]
abbrev dktJ30_comparableClassFor_4 : List UInt8 := dkwJ30_comparableClassFor_4 ++ []
def dkwJ30_comparableClassFor_3 : List UInt8 := [185, 0, 23, 1, 0, 18, 7, 166, 0, 30, 25, 4, 185, 0, 27, 1, 0, 89, 78, 198, 0, 18, 45, 190]
abbrev dktJ30_comparableClassFor_3 : List UInt8 := dkwJ30_comparableClassFor_3 ++ dktJ30_comparableClassFor_4
def dkwJ30_comparableClassFor_2 : List UInt8 := [25, 5, 21, 7, 50, 58, 8, 25, 8, 193, 0, 21, 153, 0, 48, 25, 8, 192, 0, 21, 89, 58, 4]
abbrev dktJ30_comparableClassFor_2 : List UInt8 := dkwJ30_comparableClassFor_2 ++ dktJ30_comparableClassFor_3
def dkwJ30_comparableClassFor_1 : List UInt8 := [89, 77, 198, 0, 87, 44, 58, 5, 25, 5, 190, 54, 6, 3, 54, 7, 21, 7, 21, 6, 162, 0, 69]
abbrev dktJ30_comparableClassFor_1 : List UInt8 := dkwJ30_comparableClassFor_1 ++ dktJ30_comparableClassFor_2
def dkwJ30_comparableClassFor_0 : List UInt8 := [42, 193, 0, 7, 153, 0, 109, 42, 182, 0, 9, 89, 76, 18, 13, 166, 0, 5, 43, 176, 43, 182, 0, 15]
abbrev dktJ30_comparableClassFor_0 : List UInt8 := dkwJ30_comparableClassFor_0 ++ dktJ30_comparableClassFor_1
theorem dksJ30_comparableClassFor_0 : cJ30_comparableClassFor.data.toList.drop 0 = dktJ30_comparableClassFor_0 := by decide +kernel
theorem dksJ30_comparableClassFor_1 : cJ30_comparableClassFor.data.toList.drop 24 = dktJ30_comparableClassFor_1 := dk_seg dksJ30_comparableClassFor_0 24 rfl rfl
theorem dksJ30_comparableClassFor_2 : cJ30_comparableClassFor.data.toList.drop 47 = dktJ30_comparableClassFor_2 := dk_seg dksJ30_comparableClassFor_1 23 rfl rfl
theorem dksJ30_comparableClassFor_3 : cJ30_comparableClassFor.data.toList.drop 70 = dktJ30_comparableClassFor_3 := dk_seg dksJ30_comparableClassFor_2 23 rfl rfl
theorem dksJ30_comparableClassFor_4 : cJ30_comparableClassFor.data.toList.drop 94 = dktJ30_comparableClassFor_4 := dk_seg dksJ30_comparableClassFor_3 24 rfl rfl
theorem dJ30_comparableClassFor_0 : decode cJ30_comparableClassFor 0 = .ok (.aload_n 0, 1) := dk_42 (dk_at dksJ30_comparableClassFor_0 0 rfl rfl)
theorem dJ30_comparableClassFor_1 : decode cJ30_comparableClassFor 1 = .ok (.instanceof 7, 3) := dk_193 0 7 (dk_at dksJ30_comparableClassFor_0 1 rfl rfl)
theorem dJ30_comparableClassFor_4 : decode cJ30_comparableClassFor 4 = .ok (.ifCond .eq 109, 3) := dk_153 0 109 (dk_at dksJ30_comparableClassFor_0 4 rfl rfl)
theorem dJ30_comparableClassFor_7 : decode cJ30_comparableClassFor 7 = .ok (.aload_n 0, 1) := dk_42 (dk_at dksJ30_comparableClassFor_0 7 rfl rfl)
theorem dJ30_comparableClassFor_8 : decode cJ30_comparableClassFor 8 = .ok (.invokevirtual 9, 3) := dk_182 0 9 (dk_at dksJ30_comparableClassFor_0 8 rfl rfl)
theorem dJ30_comparableClassFor_11 : decode cJ30_comparableClassFor 11 = .ok (.dup, 1) := dk_89 (dk_at dksJ30_comparableClassFor_0 11 rfl rfl)
theorem dJ30_comparableClassFor_12 : decode cJ30_comparableClassFor 12 = .ok (.astore_n 1, 1) := dk_76 (dk_at dksJ30_comparableClassFor_0 12 rfl rfl)
theorem dJ30_comparableClassFor_13 : decode cJ30_comparableClassFor 13 = .ok (.ldc 13, 2) := dk_18 13 (dk_at dksJ30_comparableClassFor_0 13 rfl rfl)
theorem dJ30_comparableClassFor_15 : decode cJ30_comparableClassFor 15 = .ok (.if_acmp .ne 5, 3) := dk_166 0 5 (dk_at dksJ30_comparableClassFor_0 15 rfl rfl)
theorem dJ30_comparableClassFor_18 : decode cJ30_comparableClassFor 18 = .ok (.aload_n 1, 1) := dk_43 (dk_at dksJ30_comparableClassFor_0 18 rfl rfl)
theorem dJ30_comparableClassFor_19 : decode cJ30_comparableClassFor 19 = .ok (.areturn, 1) := dk_176 (dk_at dksJ30_comparableClassFor_0 19 rfl rfl)
theorem dJ30_comparableClassFor_20 : decode cJ30_comparableClassFor 20 = .ok (.aload_n 1, 1) := dk_43 (dk_at dksJ30_comparableClassFor_0 20 rfl rfl)
theorem dJ30_comparableClassFor_21 : decode cJ30_comparableClassFor 21 = .ok (.invokevirtual 15, 3) := dk_182 0 15 (dk_at dksJ30_comparableClassFor_0 21 rfl rfl)
theorem dJ30_comparableClassFor_24 : decode cJ30_comparableClassFor 24 = .ok (.dup, 1) := dk_89 (dk_at dksJ30_comparableClassFor_1 0 rfl rfl)
theorem dJ30_comparableClassFor_25 : decode cJ30_comparableClassFor 25 = .ok (.astore_n 2, 1) := dk_77 (dk_at dksJ30_comparableClassFor_1 1 rfl rfl)
theorem dJ30_comparableClassFor_26 : decode cJ30_comparableClassFor 26 = .ok (.ifnull 87, 3) := dk_198 0 87 (dk_at dksJ30_comparableClassFor_1 2 rfl rfl)
theorem dJ30_comparableClassFor_29 : decode cJ30_comparableClassFor 29 = .ok (.aload_n 2, 1) := dk_44 (dk_at dksJ30_comparableClassFor_1 5 rfl rfl)
theorem dJ30_comparableClassFor_30 : decode cJ30_comparableClassFor 30 = .ok (.astore 5, 2) := dk_58 5 (dk_at dksJ30_comparableClassFor_1 6 rfl rfl)
theorem dJ30_comparableClassFor_32 : decode cJ30_comparableClassFor 32 = .ok (.aload 5, 2) := dk_25 5 (dk_at dksJ30_comparableClassFor_1 8 rfl rfl)
theorem dJ30_comparableClassFor_34 : decode cJ30_comparableClassFor 34 = .ok (.arraylength, 1) := dk_190 (dk_at dksJ30_comparableClassFor_1 10 rfl rfl)
theorem dJ30_comparableClassFor_35 : decode cJ30_comparableClassFor 35 = .ok (.istore 6, 2) := dk_54 6 (dk_at dksJ30_comparableClassFor_1 11 rfl rfl)
theorem dJ30_comparableClassFor_37 : decode cJ30_comparableClassFor 37 = .ok (.iconst 0, 1) := dk_3 (dk_at dksJ30_comparableClassFor_1 13 rfl rfl)
theorem dJ30_comparableClassFor_38 : decode cJ30_comparableClassFor 38 = .ok (.istore 7, 2) := dk_54 7 (dk_at dksJ30_comparableClassFor_1 14 rfl rfl)
theorem dJ30_comparableClassFor_40 : decode cJ30_comparableClassFor 40 = .ok (.iload 7, 2) := dk_21 7 (dk_at dksJ30_comparableClassFor_1 16 rfl rfl)
theorem dJ30_comparableClassFor_42 : decode cJ30_comparableClassFor 42 = .ok (.iload 6, 2) := dk_21 6 (dk_at dksJ30_comparableClassFor_1 18 rfl rfl)
theorem dJ30_comparableClassFor_44 : decode cJ30_comparableClassFor 44 = .ok (.if_icmp .ge 69, 3) := dk_162 0 69 (dk_at dksJ30_comparableClassFor_1 20 rfl rfl)
theorem dJ30_comparableClassFor_47 : decode cJ30_comparableClassFor 47 = .ok (.aload 5, 2) := dk_25 5 (dk_at dksJ30_comparableClassFor_2 0 rfl rfl)
theorem dJ30_comparableClassFor_49 : decode cJ30_comparableClassFor 49 = .ok (.iload 7, 2) := dk_21 7 (dk_at dksJ30_comparableClassFor_2 2 rfl rfl)
theorem dJ30_comparableClassFor_51 : decode cJ30_comparableClassFor 51 = .ok (.aaload, 1) := dk_50 (dk_at dksJ30_comparableClassFor_2 4 rfl rfl)
theorem dJ30_comparableClassFor_52 : decode cJ30_comparableClassFor 52 = .ok (.astore 8, 2) := dk_58 8 (dk_at dksJ30_comparableClassFor_2 5 rfl rfl)
theorem dJ30_comparableClassFor_54 : decode cJ30_comparableClassFor 54 = .ok (.aload 8, 2) := dk_25 8 (dk_at dksJ30_comparableClassFor_2 7 rfl rfl)
theorem dJ30_comparableClassFor_56 : decode cJ30_comparableClassFor 56 = .ok (.instanceof 21, 3) := dk_193 0 21 (dk_at dksJ30_comparableClassFor_2 9 rfl rfl)
theorem dJ30_comparableClassFor_59 : decode cJ30_comparableClassFor 59 = .ok (.ifCond .eq 48, 3) := dk_153 0 48 (dk_at dksJ30_comparableClassFor_2 12 rfl rfl)
theorem dJ30_comparableClassFor_62 : decode cJ30_comparableClassFor 62 = .ok (.aload 8, 2) := dk_25 8 (dk_at dksJ30_comparableClassFor_2 15 rfl rfl)
theorem dJ30_comparableClassFor_64 : decode cJ30_comparableClassFor 64 = .ok (.checkcast 21, 3) := dk_192 0 21 (dk_at dksJ30_comparableClassFor_2 17 rfl rfl)
theorem dJ30_comparableClassFor_67 : decode cJ30_comparableClassFor 67 = .ok (.dup, 1) := dk_89 (dk_at dksJ30_comparableClassFor_2 20 rfl rfl)
theorem dJ30_comparableClassFor_68 : decode cJ30_comparableClassFor 68 = .ok (.astore 4, 2) := dk_58 4 (dk_at dksJ30_comparableClassFor_2 21 rfl rfl)
theorem dJ30_comparableClassFor_70 : decode cJ30_comparableClassFor 70 = .ok (.invokeinterface 23 1, 5) := by decide +kernel
theorem dJ30_comparableClassFor_75 : decode cJ30_comparableClassFor 75 = .ok (.ldc 7, 2) := dk_18 7 (dk_at dksJ30_comparableClassFor_3 5 rfl rfl)
theorem dJ30_comparableClassFor_77 : decode cJ30_comparableClassFor 77 = .ok (.if_acmp .ne 30, 3) := dk_166 0 30 (dk_at dksJ30_comparableClassFor_3 7 rfl rfl)
theorem dJ30_comparableClassFor_80 : decode cJ30_comparableClassFor 80 = .ok (.aload 4, 2) := dk_25 4 (dk_at dksJ30_comparableClassFor_3 10 rfl rfl)
theorem dJ30_comparableClassFor_82 : decode cJ30_comparableClassFor 82 = .ok (.invokeinterface 27 1, 5) := by decide +kernel
theorem dJ30_comparableClassFor_87 : decode cJ30_comparableClassFor 87 = .ok (.dup, 1) := dk_89 (dk_at dksJ30_comparableClassFor_3 17 rfl rfl)
theorem dJ30_comparableClassFor_88 : decode cJ30_comparableClassFor 88 = .ok (.astore_n 3, 1) := dk_78 (dk_at dksJ30_comparableClassFor_3 18 rfl rfl)
theorem dJ30_comparableClassFor_89 : decode cJ30_comparableClassFor 89 = .ok (.ifnull 18, 3) := dk_198 0 18 (dk_at dksJ30_comparableClassFor_3 19 rfl rfl)
theorem dJ30_comparableClassFor_92 : decode cJ30_comparableClassFor 92 = .ok (.aload_n 3, 1) := dk_45 (dk_at dksJ30_comparableClassFor_3 22 rfl rfl)
theorem dJ30_comparableClassFor_93 : decode cJ30_comparableClassFor 93 = .ok (.arraylength, 1) := dk_190 (dk_at dksJ30_comparableClassFor_3 23 rfl rfl)
theorem dJ30_comparableClassFor_94 : decode cJ30_comparableClassFor 94 = .ok (.iconst 1, 1) := dk_4 (dk_at dksJ30_comparableClassFor_4 0 rfl rfl)
theorem dJ30_comparableClassFor_95 : decode cJ30_comparableClassFor 95 = .ok (.if_icmp .ne 12, 3) := dk_160 0 12 (dk_at dksJ30_comparableClassFor_4 1 rfl rfl)
theorem dJ30_comparableClassFor_98 : decode cJ30_comparableClassFor 98 = .ok (.aload_n 3, 1) := dk_45 (dk_at dksJ30_comparableClassFor_4 4 rfl rfl)
theorem dJ30_comparableClassFor_99 : decode cJ30_comparableClassFor 99 = .ok (.iconst 0, 1) := dk_3 (dk_at dksJ30_comparableClassFor_4 5 rfl rfl)
theorem dJ30_comparableClassFor_100 : decode cJ30_comparableClassFor 100 = .ok (.aaload, 1) := dk_50 (dk_at dksJ30_comparableClassFor_4 6 rfl rfl)
theorem dJ30_comparableClassFor_101 : decode cJ30_comparableClassFor 101 = .ok (.aload_n 1, 1) := dk_43 (dk_at dksJ30_comparableClassFor_4 7 rfl rfl)
theorem dJ30_comparableClassFor_102 : decode cJ30_comparableClassFor 102 = .ok (.if_acmp .ne 5, 3) := dk_166 0 5 (dk_at dksJ30_comparableClassFor_4 8 rfl rfl)
theorem dJ30_comparableClassFor_105 : decode cJ30_comparableClassFor 105 = .ok (.aload_n 1, 1) := dk_43 (dk_at dksJ30_comparableClassFor_4 11 rfl rfl)
theorem dJ30_comparableClassFor_106 : decode cJ30_comparableClassFor 106 = .ok (.areturn, 1) := dk_176 (dk_at dksJ30_comparableClassFor_4 12 rfl rfl)
theorem dJ30_comparableClassFor_107 : decode cJ30_comparableClassFor 107 = .ok (.iinc 7 1, 3) := dk_132 7 1 (dk_at dksJ30_comparableClassFor_4 13 rfl rfl)
theorem dJ30_comparableClassFor_110 : decode cJ30_comparableClassFor 110 = .ok (.goto (-70), 3) := dk_167 255 186 (dk_at dksJ30_comparableClassFor_4 16 rfl rfl)
theorem dJ30_comparableClassFor_113 : decode cJ30_comparableClassFor 113 = .ok (.aconst_null, 1) := dk_1 (dk_at dksJ30_comparableClassFor_4 19 rfl rfl)
theorem dJ30_comparableClassFor_114 : decode cJ30_comparableClassFor 114 = .ok (.areturn, 1) := dk_176 (dk_at dksJ30_comparableClassFor_4 20 rfl rfl)
abbrev cJ30_compareComparables : ByteArray := prog_68_method_3_code
def yJ30_compareComparables : MethodName := ⟨RJ30, "compareComparables", "(Ljava/lang/Class;Ljava/lang/Object;Ljava/lang/Object;)I"⟩
def dkwJ30_compareComparables_1 : List UInt8 := [185, 0, 30, 2, 0, 172]
abbrev dktJ30_compareComparables_1 : List UInt8 := dkwJ30_compareComparables_1 ++ []
def dkwJ30_compareComparables_0 : List UInt8 := [44, 198, 0, 11, 44, 182, 0, 9, 42, 165, 0, 7, 3, 167, 0, 13, 43, 192, 0, 7, 44]
abbrev dktJ30_compareComparables_0 : List UInt8 := dkwJ30_compareComparables_0 ++ dktJ30_compareComparables_1
theorem dksJ30_compareComparables_0 : cJ30_compareComparables.data.toList.drop 0 = dktJ30_compareComparables_0 := by decide +kernel
theorem dksJ30_compareComparables_1 : cJ30_compareComparables.data.toList.drop 21 = dktJ30_compareComparables_1 := dk_seg dksJ30_compareComparables_0 21 rfl rfl
theorem dJ30_compareComparables_0 : decode cJ30_compareComparables 0 = .ok (.aload_n 2, 1) := dk_44 (dk_at dksJ30_compareComparables_0 0 rfl rfl)
theorem dJ30_compareComparables_1 : decode cJ30_compareComparables 1 = .ok (.ifnull 11, 3) := dk_198 0 11 (dk_at dksJ30_compareComparables_0 1 rfl rfl)
theorem dJ30_compareComparables_4 : decode cJ30_compareComparables 4 = .ok (.aload_n 2, 1) := dk_44 (dk_at dksJ30_compareComparables_0 4 rfl rfl)
theorem dJ30_compareComparables_5 : decode cJ30_compareComparables 5 = .ok (.invokevirtual 9, 3) := dk_182 0 9 (dk_at dksJ30_compareComparables_0 5 rfl rfl)
theorem dJ30_compareComparables_8 : decode cJ30_compareComparables 8 = .ok (.aload_n 0, 1) := dk_42 (dk_at dksJ30_compareComparables_0 8 rfl rfl)
theorem dJ30_compareComparables_9 : decode cJ30_compareComparables 9 = .ok (.if_acmp .eq 7, 3) := dk_165 0 7 (dk_at dksJ30_compareComparables_0 9 rfl rfl)
theorem dJ30_compareComparables_12 : decode cJ30_compareComparables 12 = .ok (.iconst 0, 1) := dk_3 (dk_at dksJ30_compareComparables_0 12 rfl rfl)
theorem dJ30_compareComparables_13 : decode cJ30_compareComparables 13 = .ok (.goto 13, 3) := dk_167 0 13 (dk_at dksJ30_compareComparables_0 13 rfl rfl)
theorem dJ30_compareComparables_16 : decode cJ30_compareComparables 16 = .ok (.aload_n 1, 1) := dk_43 (dk_at dksJ30_compareComparables_0 16 rfl rfl)
theorem dJ30_compareComparables_17 : decode cJ30_compareComparables 17 = .ok (.checkcast 7, 3) := dk_192 0 7 (dk_at dksJ30_compareComparables_0 17 rfl rfl)
theorem dJ30_compareComparables_20 : decode cJ30_compareComparables 20 = .ok (.aload_n 2, 1) := dk_44 (dk_at dksJ30_compareComparables_0 20 rfl rfl)
theorem dJ30_compareComparables_21 : decode cJ30_compareComparables 21 = .ok (.invokeinterface 30 2, 5) := by decide +kernel
theorem dJ30_compareComparables_26 : decode cJ30_compareComparables 26 = .ok (.ireturn, 1) := dk_172 (dk_at dksJ30_compareComparables_1 5 rfl rfl)
abbrev cJ30_put : ByteArray := prog_68_method_15_code
def yJ30_put : MethodName := ⟨RJ30, "put", "(Ljava/lang/Object;Ljava/lang/Object;)Ljava/lang/Object;"⟩
def dkwJ30_put_0 : List UInt8 := [42, 43, 184, 0, 149, 43, 44, 3, 4, 182, 0, 152, 176]
abbrev dktJ30_put_0 : List UInt8 := dkwJ30_put_0 ++ []
theorem dksJ30_put_0 : cJ30_put.data.toList.drop 0 = dktJ30_put_0 := by decide +kernel
theorem dJ30_put_0 : decode cJ30_put 0 = .ok (.aload_n 0, 1) := dk_42 (dk_at dksJ30_put_0 0 rfl rfl)
theorem dJ30_put_1 : decode cJ30_put 1 = .ok (.aload_n 1, 1) := dk_43 (dk_at dksJ30_put_0 1 rfl rfl)
theorem dJ30_put_2 : decode cJ30_put 2 = .ok (.invokestatic 149, 3) := dk_184 0 149 (dk_at dksJ30_put_0 2 rfl rfl)
theorem dJ30_put_5 : decode cJ30_put 5 = .ok (.aload_n 1, 1) := dk_43 (dk_at dksJ30_put_0 5 rfl rfl)
theorem dJ30_put_6 : decode cJ30_put 6 = .ok (.aload_n 2, 1) := dk_44 (dk_at dksJ30_put_0 6 rfl rfl)
theorem dJ30_put_7 : decode cJ30_put 7 = .ok (.iconst 0, 1) := dk_3 (dk_at dksJ30_put_0 7 rfl rfl)
theorem dJ30_put_8 : decode cJ30_put 8 = .ok (.iconst 1, 1) := dk_4 (dk_at dksJ30_put_0 8 rfl rfl)
theorem dJ30_put_9 : decode cJ30_put 9 = .ok (.invokevirtual 152, 3) := dk_182 0 152 (dk_at dksJ30_put_0 9 rfl rfl)
theorem dJ30_put_12 : decode cJ30_put 12 = .ok (.areturn, 1) := dk_176 (dk_at dksJ30_put_0 12 rfl rfl)
abbrev cJ30_putVal : ByteArray := prog_68_method_16_code
def yJ30_putVal : MethodName := ⟨RJ30, "putVal", "(ILjava/lang/Object;Ljava/lang/Object;ZZ)Ljava/lang/Object;"⟩
def dkwJ30_putVal_12 : List UInt8 := [181, 0, 156, 42, 180, 0, 88, 164, 0, 8, 42, 182, 0, 117, 87, 42, 21, 5, 182, 0, 205, 1, 176]
abbrev dktJ30_putVal_12 : List UInt8 := dkwJ30_putVal_12 ++ []
def dkwJ30_putVal_11 : List UInt8 := [182, 0, 198, 25, 12, 176, 42, 89, 180, 0, 202, 4, 96, 181, 0, 202, 42, 89, 180, 0, 156, 4, 96, 90]
abbrev dktJ30_putVal_11 : List UInt8 := dkwJ30_putVal_11 ++ dktJ30_putVal_12
def dkwJ30_putVal_10 : List UInt8 := [180, 0, 162, 58, 12, 21, 4, 153, 0, 8, 25, 12, 199, 0, 9, 25, 10, 45, 181, 0, 162, 42, 25, 10]
abbrev dktJ30_putVal_10 : List UInt8 := dkwJ30_putVal_10 ++ dktJ30_putVal_11
def dkwJ30_putVal_9 : List UInt8 := [153, 0, 6, 167, 0, 13, 25, 10, 58, 7, 132, 12, 1, 167, 255, 171, 25, 10, 198, 0, 35, 25, 10]
abbrev dktJ30_putVal_9 : List UInt8 := dkwJ30_putVal_9 ++ dktJ30_putVal_10
def dkwJ30_putVal_8 : List UInt8 := [25, 10, 180, 0, 170, 89, 58, 11, 44, 165, 0, 29, 44, 198, 0, 15, 44, 25, 11, 182, 0, 173]
abbrev dktJ30_putVal_8 : List UInt8 := dkwJ30_putVal_8 ++ dktJ30_putVal_9
def dkwJ30_putVal_7 : List UInt8 := [16, 7, 161, 0, 60, 42, 25, 6, 27, 182, 0, 194, 167, 0, 50, 25, 10, 180, 0, 168, 27, 160, 0, 31]
abbrev dktJ30_putVal_7 : List UInt8 := dkwJ30_putVal_7 ++ dktJ30_putVal_8
def dkwJ30_putVal_6 : List UInt8 := [180, 0, 177, 89, 58, 10, 199, 0, 33, 25, 7, 42, 27, 44, 45, 1, 182, 0, 186, 181, 0, 177, 21, 12]
abbrev dktJ30_putVal_6 : List UInt8 := dkwJ30_putVal_6 ++ dktJ30_putVal_7
def dkwJ30_putVal_5 : List UInt8 := [192, 0, 180, 42, 25, 6, 27, 44, 45, 182, 0, 190, 58, 10, 167, 0, 94, 3, 54, 12, 25, 7]
abbrev dktJ30_putVal_5 : List UInt8 := dkwJ30_putVal_5 ++ dktJ30_putVal_6
def dkwJ30_putVal_4 : List UInt8 := [182, 0, 173, 153, 0, 10, 25, 7, 58, 10, 167, 0, 121, 25, 7, 193, 0, 180, 153, 0, 22, 25, 7]
abbrev dktJ30_putVal_4 : List UInt8 := dkwJ30_putVal_4 ++ dktJ30_putVal_5
def dkwJ30_putVal_3 : List UInt8 := [160, 0, 35, 25, 7, 180, 0, 170, 89, 58, 11, 44, 165, 0, 16, 44, 198, 0, 19, 44, 25, 11]
abbrev dktJ30_putVal_3 : List UInt8 := dkwJ30_putVal_3 ++ dktJ30_putVal_4
def dkwJ30_putVal_2 : List UInt8 := [25, 6, 21, 9, 42, 27, 44, 45, 1, 182, 0, 186, 83, 167, 0, 199, 25, 7, 180, 0, 168, 27]
abbrev dktJ30_putVal_2 : List UInt8 := dkwJ30_putVal_2 ++ dktJ30_putVal_3
def dkwJ30_putVal_1 : List UInt8 := [58, 6, 190, 54, 8, 25, 6, 21, 8, 4, 100, 27, 126, 89, 54, 9, 50, 89, 58, 7, 199, 0, 19]
abbrev dktJ30_putVal_1 : List UInt8 := dkwJ30_putVal_1 ++ dktJ30_putVal_2
def dkwJ30_putVal_0 : List UInt8 := [42, 180, 0, 105, 89, 58, 6, 198, 0, 12, 25, 6, 190, 89, 54, 8, 154, 0, 13, 42, 182, 0, 117, 89]
abbrev dktJ30_putVal_0 : List UInt8 := dkwJ30_putVal_0 ++ dktJ30_putVal_1
theorem dksJ30_putVal_0 : cJ30_putVal.data.toList.drop 0 = dktJ30_putVal_0 := by decide +kernel
theorem dksJ30_putVal_1 : cJ30_putVal.data.toList.drop 24 = dktJ30_putVal_1 := dk_seg dksJ30_putVal_0 24 rfl rfl
theorem dksJ30_putVal_2 : cJ30_putVal.data.toList.drop 47 = dktJ30_putVal_2 := dk_seg dksJ30_putVal_1 23 rfl rfl
theorem dksJ30_putVal_3 : cJ30_putVal.data.toList.drop 69 = dktJ30_putVal_3 := dk_seg dksJ30_putVal_2 22 rfl rfl
theorem dksJ30_putVal_4 : cJ30_putVal.data.toList.drop 91 = dktJ30_putVal_4 := dk_seg dksJ30_putVal_3 22 rfl rfl
theorem dksJ30_putVal_5 : cJ30_putVal.data.toList.drop 114 = dktJ30_putVal_5 := dk_seg dksJ30_putVal_4 23 rfl rfl
theorem dksJ30_putVal_6 : cJ30_putVal.data.toList.drop 136 = dktJ30_putVal_6 := dk_seg dksJ30_putVal_5 22 rfl rfl
theorem dksJ30_putVal_7 : cJ30_putVal.data.toList.drop 160 = dktJ30_putVal_7 := dk_seg dksJ30_putVal_6 24 rfl rfl
theorem dksJ30_putVal_8 : cJ30_putVal.data.toList.drop 184 = dktJ30_putVal_8 := dk_seg dksJ30_putVal_7 24 rfl rfl
theorem dksJ30_putVal_9 : cJ30_putVal.data.toList.drop 206 = dktJ30_putVal_9 := dk_seg dksJ30_putVal_8 22 rfl rfl
theorem dksJ30_putVal_10 : cJ30_putVal.data.toList.drop 229 = dktJ30_putVal_10 := dk_seg dksJ30_putVal_9 23 rfl rfl
theorem dksJ30_putVal_11 : cJ30_putVal.data.toList.drop 253 = dktJ30_putVal_11 := dk_seg dksJ30_putVal_10 24 rfl rfl
theorem dksJ30_putVal_12 : cJ30_putVal.data.toList.drop 277 = dktJ30_putVal_12 := dk_seg dksJ30_putVal_11 24 rfl rfl
theorem dJ30_putVal_0 : decode cJ30_putVal 0 = .ok (.aload_n 0, 1) := dk_42 (dk_at dksJ30_putVal_0 0 rfl rfl)
theorem dJ30_putVal_1 : decode cJ30_putVal 1 = .ok (.getfield 105, 3) := dk_180 0 105 (dk_at dksJ30_putVal_0 1 rfl rfl)
theorem dJ30_putVal_4 : decode cJ30_putVal 4 = .ok (.dup, 1) := dk_89 (dk_at dksJ30_putVal_0 4 rfl rfl)
theorem dJ30_putVal_5 : decode cJ30_putVal 5 = .ok (.astore 6, 2) := dk_58 6 (dk_at dksJ30_putVal_0 5 rfl rfl)
theorem dJ30_putVal_7 : decode cJ30_putVal 7 = .ok (.ifnull 12, 3) := dk_198 0 12 (dk_at dksJ30_putVal_0 7 rfl rfl)
theorem dJ30_putVal_10 : decode cJ30_putVal 10 = .ok (.aload 6, 2) := dk_25 6 (dk_at dksJ30_putVal_0 10 rfl rfl)
theorem dJ30_putVal_12 : decode cJ30_putVal 12 = .ok (.arraylength, 1) := dk_190 (dk_at dksJ30_putVal_0 12 rfl rfl)
theorem dJ30_putVal_13 : decode cJ30_putVal 13 = .ok (.dup, 1) := dk_89 (dk_at dksJ30_putVal_0 13 rfl rfl)
theorem dJ30_putVal_14 : decode cJ30_putVal 14 = .ok (.istore 8, 2) := dk_54 8 (dk_at dksJ30_putVal_0 14 rfl rfl)
theorem dJ30_putVal_16 : decode cJ30_putVal 16 = .ok (.ifCond .ne 13, 3) := dk_154 0 13 (dk_at dksJ30_putVal_0 16 rfl rfl)
theorem dJ30_putVal_19 : decode cJ30_putVal 19 = .ok (.aload_n 0, 1) := dk_42 (dk_at dksJ30_putVal_0 19 rfl rfl)
theorem dJ30_putVal_20 : decode cJ30_putVal 20 = .ok (.invokevirtual 117, 3) := dk_182 0 117 (dk_at dksJ30_putVal_0 20 rfl rfl)
theorem dJ30_putVal_23 : decode cJ30_putVal 23 = .ok (.dup, 1) := dk_89 (dk_at dksJ30_putVal_0 23 rfl rfl)
theorem dJ30_putVal_24 : decode cJ30_putVal 24 = .ok (.astore 6, 2) := dk_58 6 (dk_at dksJ30_putVal_1 0 rfl rfl)
theorem dJ30_putVal_26 : decode cJ30_putVal 26 = .ok (.arraylength, 1) := dk_190 (dk_at dksJ30_putVal_1 2 rfl rfl)
theorem dJ30_putVal_27 : decode cJ30_putVal 27 = .ok (.istore 8, 2) := dk_54 8 (dk_at dksJ30_putVal_1 3 rfl rfl)
theorem dJ30_putVal_29 : decode cJ30_putVal 29 = .ok (.aload 6, 2) := dk_25 6 (dk_at dksJ30_putVal_1 5 rfl rfl)
theorem dJ30_putVal_31 : decode cJ30_putVal 31 = .ok (.iload 8, 2) := dk_21 8 (dk_at dksJ30_putVal_1 7 rfl rfl)
theorem dJ30_putVal_33 : decode cJ30_putVal 33 = .ok (.iconst 1, 1) := dk_4 (dk_at dksJ30_putVal_1 9 rfl rfl)
theorem dJ30_putVal_34 : decode cJ30_putVal 34 = .ok (.isub, 1) := dk_100 (dk_at dksJ30_putVal_1 10 rfl rfl)
theorem dJ30_putVal_35 : decode cJ30_putVal 35 = .ok (.iload_n 1, 1) := dk_27 (dk_at dksJ30_putVal_1 11 rfl rfl)
theorem dJ30_putVal_36 : decode cJ30_putVal 36 = .ok (.iand, 1) := dk_126 (dk_at dksJ30_putVal_1 12 rfl rfl)
theorem dJ30_putVal_37 : decode cJ30_putVal 37 = .ok (.dup, 1) := dk_89 (dk_at dksJ30_putVal_1 13 rfl rfl)
theorem dJ30_putVal_38 : decode cJ30_putVal 38 = .ok (.istore 9, 2) := dk_54 9 (dk_at dksJ30_putVal_1 14 rfl rfl)
theorem dJ30_putVal_40 : decode cJ30_putVal 40 = .ok (.aaload, 1) := dk_50 (dk_at dksJ30_putVal_1 16 rfl rfl)
theorem dJ30_putVal_41 : decode cJ30_putVal 41 = .ok (.dup, 1) := dk_89 (dk_at dksJ30_putVal_1 17 rfl rfl)
theorem dJ30_putVal_42 : decode cJ30_putVal 42 = .ok (.astore 7, 2) := dk_58 7 (dk_at dksJ30_putVal_1 18 rfl rfl)
theorem dJ30_putVal_44 : decode cJ30_putVal 44 = .ok (.ifnonnull 19, 3) := dk_199 0 19 (dk_at dksJ30_putVal_1 20 rfl rfl)
theorem dJ30_putVal_47 : decode cJ30_putVal 47 = .ok (.aload 6, 2) := dk_25 6 (dk_at dksJ30_putVal_2 0 rfl rfl)
theorem dJ30_putVal_49 : decode cJ30_putVal 49 = .ok (.iload 9, 2) := dk_21 9 (dk_at dksJ30_putVal_2 2 rfl rfl)
theorem dJ30_putVal_51 : decode cJ30_putVal 51 = .ok (.aload_n 0, 1) := dk_42 (dk_at dksJ30_putVal_2 4 rfl rfl)
theorem dJ30_putVal_52 : decode cJ30_putVal 52 = .ok (.iload_n 1, 1) := dk_27 (dk_at dksJ30_putVal_2 5 rfl rfl)
theorem dJ30_putVal_53 : decode cJ30_putVal 53 = .ok (.aload_n 2, 1) := dk_44 (dk_at dksJ30_putVal_2 6 rfl rfl)
theorem dJ30_putVal_54 : decode cJ30_putVal 54 = .ok (.aload_n 3, 1) := dk_45 (dk_at dksJ30_putVal_2 7 rfl rfl)
theorem dJ30_putVal_55 : decode cJ30_putVal 55 = .ok (.aconst_null, 1) := dk_1 (dk_at dksJ30_putVal_2 8 rfl rfl)
theorem dJ30_putVal_56 : decode cJ30_putVal 56 = .ok (.invokevirtual 186, 3) := dk_182 0 186 (dk_at dksJ30_putVal_2 9 rfl rfl)
theorem dJ30_putVal_59 : decode cJ30_putVal 59 = .ok (.aastore, 1) := dk_83 (dk_at dksJ30_putVal_2 12 rfl rfl)
theorem dJ30_putVal_60 : decode cJ30_putVal 60 = .ok (.goto 199, 3) := dk_167 0 199 (dk_at dksJ30_putVal_2 13 rfl rfl)
theorem dJ30_putVal_63 : decode cJ30_putVal 63 = .ok (.aload 7, 2) := dk_25 7 (dk_at dksJ30_putVal_2 16 rfl rfl)
theorem dJ30_putVal_65 : decode cJ30_putVal 65 = .ok (.getfield 168, 3) := dk_180 0 168 (dk_at dksJ30_putVal_2 18 rfl rfl)
theorem dJ30_putVal_68 : decode cJ30_putVal 68 = .ok (.iload_n 1, 1) := dk_27 (dk_at dksJ30_putVal_2 21 rfl rfl)
theorem dJ30_putVal_69 : decode cJ30_putVal 69 = .ok (.if_icmp .ne 35, 3) := dk_160 0 35 (dk_at dksJ30_putVal_3 0 rfl rfl)
theorem dJ30_putVal_72 : decode cJ30_putVal 72 = .ok (.aload 7, 2) := dk_25 7 (dk_at dksJ30_putVal_3 3 rfl rfl)
theorem dJ30_putVal_74 : decode cJ30_putVal 74 = .ok (.getfield 170, 3) := dk_180 0 170 (dk_at dksJ30_putVal_3 5 rfl rfl)
theorem dJ30_putVal_77 : decode cJ30_putVal 77 = .ok (.dup, 1) := dk_89 (dk_at dksJ30_putVal_3 8 rfl rfl)
theorem dJ30_putVal_78 : decode cJ30_putVal 78 = .ok (.astore 11, 2) := dk_58 11 (dk_at dksJ30_putVal_3 9 rfl rfl)
theorem dJ30_putVal_80 : decode cJ30_putVal 80 = .ok (.aload_n 2, 1) := dk_44 (dk_at dksJ30_putVal_3 11 rfl rfl)
theorem dJ30_putVal_81 : decode cJ30_putVal 81 = .ok (.if_acmp .eq 16, 3) := dk_165 0 16 (dk_at dksJ30_putVal_3 12 rfl rfl)
theorem dJ30_putVal_84 : decode cJ30_putVal 84 = .ok (.aload_n 2, 1) := dk_44 (dk_at dksJ30_putVal_3 15 rfl rfl)
theorem dJ30_putVal_85 : decode cJ30_putVal 85 = .ok (.ifnull 19, 3) := dk_198 0 19 (dk_at dksJ30_putVal_3 16 rfl rfl)
theorem dJ30_putVal_88 : decode cJ30_putVal 88 = .ok (.aload_n 2, 1) := dk_44 (dk_at dksJ30_putVal_3 19 rfl rfl)
theorem dJ30_putVal_89 : decode cJ30_putVal 89 = .ok (.aload 11, 2) := dk_25 11 (dk_at dksJ30_putVal_3 20 rfl rfl)
theorem dJ30_putVal_91 : decode cJ30_putVal 91 = .ok (.invokevirtual 173, 3) := dk_182 0 173 (dk_at dksJ30_putVal_4 0 rfl rfl)
theorem dJ30_putVal_94 : decode cJ30_putVal 94 = .ok (.ifCond .eq 10, 3) := dk_153 0 10 (dk_at dksJ30_putVal_4 3 rfl rfl)
theorem dJ30_putVal_97 : decode cJ30_putVal 97 = .ok (.aload 7, 2) := dk_25 7 (dk_at dksJ30_putVal_4 6 rfl rfl)
theorem dJ30_putVal_99 : decode cJ30_putVal 99 = .ok (.astore 10, 2) := dk_58 10 (dk_at dksJ30_putVal_4 8 rfl rfl)
theorem dJ30_putVal_101 : decode cJ30_putVal 101 = .ok (.goto 121, 3) := dk_167 0 121 (dk_at dksJ30_putVal_4 10 rfl rfl)
theorem dJ30_putVal_104 : decode cJ30_putVal 104 = .ok (.aload 7, 2) := dk_25 7 (dk_at dksJ30_putVal_4 13 rfl rfl)
theorem dJ30_putVal_106 : decode cJ30_putVal 106 = .ok (.instanceof 180, 3) := dk_193 0 180 (dk_at dksJ30_putVal_4 15 rfl rfl)
theorem dJ30_putVal_109 : decode cJ30_putVal 109 = .ok (.ifCond .eq 22, 3) := dk_153 0 22 (dk_at dksJ30_putVal_4 18 rfl rfl)
theorem dJ30_putVal_112 : decode cJ30_putVal 112 = .ok (.aload 7, 2) := dk_25 7 (dk_at dksJ30_putVal_4 21 rfl rfl)
theorem dJ30_putVal_114 : decode cJ30_putVal 114 = .ok (.checkcast 180, 3) := dk_192 0 180 (dk_at dksJ30_putVal_5 0 rfl rfl)
theorem dJ30_putVal_117 : decode cJ30_putVal 117 = .ok (.aload_n 0, 1) := dk_42 (dk_at dksJ30_putVal_5 3 rfl rfl)
theorem dJ30_putVal_118 : decode cJ30_putVal 118 = .ok (.aload 6, 2) := dk_25 6 (dk_at dksJ30_putVal_5 4 rfl rfl)
theorem dJ30_putVal_120 : decode cJ30_putVal 120 = .ok (.iload_n 1, 1) := dk_27 (dk_at dksJ30_putVal_5 6 rfl rfl)
theorem dJ30_putVal_121 : decode cJ30_putVal 121 = .ok (.aload_n 2, 1) := dk_44 (dk_at dksJ30_putVal_5 7 rfl rfl)
theorem dJ30_putVal_122 : decode cJ30_putVal 122 = .ok (.aload_n 3, 1) := dk_45 (dk_at dksJ30_putVal_5 8 rfl rfl)
theorem dJ30_putVal_123 : decode cJ30_putVal 123 = .ok (.invokevirtual 190, 3) := dk_182 0 190 (dk_at dksJ30_putVal_5 9 rfl rfl)
theorem dJ30_putVal_126 : decode cJ30_putVal 126 = .ok (.astore 10, 2) := dk_58 10 (dk_at dksJ30_putVal_5 12 rfl rfl)
theorem dJ30_putVal_128 : decode cJ30_putVal 128 = .ok (.goto 94, 3) := dk_167 0 94 (dk_at dksJ30_putVal_5 14 rfl rfl)
theorem dJ30_putVal_131 : decode cJ30_putVal 131 = .ok (.iconst 0, 1) := dk_3 (dk_at dksJ30_putVal_5 17 rfl rfl)
theorem dJ30_putVal_132 : decode cJ30_putVal 132 = .ok (.istore 12, 2) := dk_54 12 (dk_at dksJ30_putVal_5 18 rfl rfl)
theorem dJ30_putVal_134 : decode cJ30_putVal 134 = .ok (.aload 7, 2) := dk_25 7 (dk_at dksJ30_putVal_5 20 rfl rfl)
theorem dJ30_putVal_136 : decode cJ30_putVal 136 = .ok (.getfield 177, 3) := dk_180 0 177 (dk_at dksJ30_putVal_6 0 rfl rfl)
theorem dJ30_putVal_139 : decode cJ30_putVal 139 = .ok (.dup, 1) := dk_89 (dk_at dksJ30_putVal_6 3 rfl rfl)
theorem dJ30_putVal_140 : decode cJ30_putVal 140 = .ok (.astore 10, 2) := dk_58 10 (dk_at dksJ30_putVal_6 4 rfl rfl)
theorem dJ30_putVal_142 : decode cJ30_putVal 142 = .ok (.ifnonnull 33, 3) := dk_199 0 33 (dk_at dksJ30_putVal_6 6 rfl rfl)
theorem dJ30_putVal_145 : decode cJ30_putVal 145 = .ok (.aload 7, 2) := dk_25 7 (dk_at dksJ30_putVal_6 9 rfl rfl)
theorem dJ30_putVal_147 : decode cJ30_putVal 147 = .ok (.aload_n 0, 1) := dk_42 (dk_at dksJ30_putVal_6 11 rfl rfl)
theorem dJ30_putVal_148 : decode cJ30_putVal 148 = .ok (.iload_n 1, 1) := dk_27 (dk_at dksJ30_putVal_6 12 rfl rfl)
theorem dJ30_putVal_149 : decode cJ30_putVal 149 = .ok (.aload_n 2, 1) := dk_44 (dk_at dksJ30_putVal_6 13 rfl rfl)
theorem dJ30_putVal_150 : decode cJ30_putVal 150 = .ok (.aload_n 3, 1) := dk_45 (dk_at dksJ30_putVal_6 14 rfl rfl)
theorem dJ30_putVal_151 : decode cJ30_putVal 151 = .ok (.aconst_null, 1) := dk_1 (dk_at dksJ30_putVal_6 15 rfl rfl)
theorem dJ30_putVal_152 : decode cJ30_putVal 152 = .ok (.invokevirtual 186, 3) := dk_182 0 186 (dk_at dksJ30_putVal_6 16 rfl rfl)
theorem dJ30_putVal_155 : decode cJ30_putVal 155 = .ok (.putfield 177, 3) := dk_181 0 177 (dk_at dksJ30_putVal_6 19 rfl rfl)
theorem dJ30_putVal_158 : decode cJ30_putVal 158 = .ok (.iload 12, 2) := dk_21 12 (dk_at dksJ30_putVal_6 22 rfl rfl)
theorem dJ30_putVal_160 : decode cJ30_putVal 160 = .ok (.bipush 7, 2) := dk_16 7 (dk_at dksJ30_putVal_7 0 rfl rfl)
theorem dJ30_putVal_162 : decode cJ30_putVal 162 = .ok (.if_icmp .lt 60, 3) := dk_161 0 60 (dk_at dksJ30_putVal_7 2 rfl rfl)
theorem dJ30_putVal_165 : decode cJ30_putVal 165 = .ok (.aload_n 0, 1) := dk_42 (dk_at dksJ30_putVal_7 5 rfl rfl)
theorem dJ30_putVal_166 : decode cJ30_putVal 166 = .ok (.aload 6, 2) := dk_25 6 (dk_at dksJ30_putVal_7 6 rfl rfl)
theorem dJ30_putVal_168 : decode cJ30_putVal 168 = .ok (.iload_n 1, 1) := dk_27 (dk_at dksJ30_putVal_7 8 rfl rfl)
theorem dJ30_putVal_169 : decode cJ30_putVal 169 = .ok (.invokevirtual 194, 3) := dk_182 0 194 (dk_at dksJ30_putVal_7 9 rfl rfl)
theorem dJ30_putVal_172 : decode cJ30_putVal 172 = .ok (.goto 50, 3) := dk_167 0 50 (dk_at dksJ30_putVal_7 12 rfl rfl)
theorem dJ30_putVal_175 : decode cJ30_putVal 175 = .ok (.aload 10, 2) := dk_25 10 (dk_at dksJ30_putVal_7 15 rfl rfl)
theorem dJ30_putVal_177 : decode cJ30_putVal 177 = .ok (.getfield 168, 3) := dk_180 0 168 (dk_at dksJ30_putVal_7 17 rfl rfl)
theorem dJ30_putVal_180 : decode cJ30_putVal 180 = .ok (.iload_n 1, 1) := dk_27 (dk_at dksJ30_putVal_7 20 rfl rfl)
theorem dJ30_putVal_181 : decode cJ30_putVal 181 = .ok (.if_icmp .ne 31, 3) := dk_160 0 31 (dk_at dksJ30_putVal_7 21 rfl rfl)
theorem dJ30_putVal_184 : decode cJ30_putVal 184 = .ok (.aload 10, 2) := dk_25 10 (dk_at dksJ30_putVal_8 0 rfl rfl)
theorem dJ30_putVal_186 : decode cJ30_putVal 186 = .ok (.getfield 170, 3) := dk_180 0 170 (dk_at dksJ30_putVal_8 2 rfl rfl)
theorem dJ30_putVal_189 : decode cJ30_putVal 189 = .ok (.dup, 1) := dk_89 (dk_at dksJ30_putVal_8 5 rfl rfl)
theorem dJ30_putVal_190 : decode cJ30_putVal 190 = .ok (.astore 11, 2) := dk_58 11 (dk_at dksJ30_putVal_8 6 rfl rfl)
theorem dJ30_putVal_192 : decode cJ30_putVal 192 = .ok (.aload_n 2, 1) := dk_44 (dk_at dksJ30_putVal_8 8 rfl rfl)
theorem dJ30_putVal_193 : decode cJ30_putVal 193 = .ok (.if_acmp .eq 29, 3) := dk_165 0 29 (dk_at dksJ30_putVal_8 9 rfl rfl)
theorem dJ30_putVal_196 : decode cJ30_putVal 196 = .ok (.aload_n 2, 1) := dk_44 (dk_at dksJ30_putVal_8 12 rfl rfl)
theorem dJ30_putVal_197 : decode cJ30_putVal 197 = .ok (.ifnull 15, 3) := dk_198 0 15 (dk_at dksJ30_putVal_8 13 rfl rfl)
theorem dJ30_putVal_200 : decode cJ30_putVal 200 = .ok (.aload_n 2, 1) := dk_44 (dk_at dksJ30_putVal_8 16 rfl rfl)
theorem dJ30_putVal_201 : decode cJ30_putVal 201 = .ok (.aload 11, 2) := dk_25 11 (dk_at dksJ30_putVal_8 17 rfl rfl)
theorem dJ30_putVal_203 : decode cJ30_putVal 203 = .ok (.invokevirtual 173, 3) := dk_182 0 173 (dk_at dksJ30_putVal_8 19 rfl rfl)
theorem dJ30_putVal_206 : decode cJ30_putVal 206 = .ok (.ifCond .eq 6, 3) := dk_153 0 6 (dk_at dksJ30_putVal_9 0 rfl rfl)
theorem dJ30_putVal_209 : decode cJ30_putVal 209 = .ok (.goto 13, 3) := dk_167 0 13 (dk_at dksJ30_putVal_9 3 rfl rfl)
theorem dJ30_putVal_212 : decode cJ30_putVal 212 = .ok (.aload 10, 2) := dk_25 10 (dk_at dksJ30_putVal_9 6 rfl rfl)
theorem dJ30_putVal_214 : decode cJ30_putVal 214 = .ok (.astore 7, 2) := dk_58 7 (dk_at dksJ30_putVal_9 8 rfl rfl)
theorem dJ30_putVal_216 : decode cJ30_putVal 216 = .ok (.iinc 12 1, 3) := dk_132 12 1 (dk_at dksJ30_putVal_9 10 rfl rfl)
theorem dJ30_putVal_219 : decode cJ30_putVal 219 = .ok (.goto (-85), 3) := dk_167 255 171 (dk_at dksJ30_putVal_9 13 rfl rfl)
theorem dJ30_putVal_222 : decode cJ30_putVal 222 = .ok (.aload 10, 2) := dk_25 10 (dk_at dksJ30_putVal_9 16 rfl rfl)
theorem dJ30_putVal_224 : decode cJ30_putVal 224 = .ok (.ifnull 35, 3) := dk_198 0 35 (dk_at dksJ30_putVal_9 18 rfl rfl)
theorem dJ30_putVal_227 : decode cJ30_putVal 227 = .ok (.aload 10, 2) := dk_25 10 (dk_at dksJ30_putVal_9 21 rfl rfl)
theorem dJ30_putVal_229 : decode cJ30_putVal 229 = .ok (.getfield 162, 3) := dk_180 0 162 (dk_at dksJ30_putVal_10 0 rfl rfl)
theorem dJ30_putVal_232 : decode cJ30_putVal 232 = .ok (.astore 12, 2) := dk_58 12 (dk_at dksJ30_putVal_10 3 rfl rfl)
theorem dJ30_putVal_234 : decode cJ30_putVal 234 = .ok (.iload 4, 2) := dk_21 4 (dk_at dksJ30_putVal_10 5 rfl rfl)
theorem dJ30_putVal_236 : decode cJ30_putVal 236 = .ok (.ifCond .eq 8, 3) := dk_153 0 8 (dk_at dksJ30_putVal_10 7 rfl rfl)
theorem dJ30_putVal_239 : decode cJ30_putVal 239 = .ok (.aload 12, 2) := dk_25 12 (dk_at dksJ30_putVal_10 10 rfl rfl)
theorem dJ30_putVal_241 : decode cJ30_putVal 241 = .ok (.ifnonnull 9, 3) := dk_199 0 9 (dk_at dksJ30_putVal_10 12 rfl rfl)
theorem dJ30_putVal_244 : decode cJ30_putVal 244 = .ok (.aload 10, 2) := dk_25 10 (dk_at dksJ30_putVal_10 15 rfl rfl)
theorem dJ30_putVal_246 : decode cJ30_putVal 246 = .ok (.aload_n 3, 1) := dk_45 (dk_at dksJ30_putVal_10 17 rfl rfl)
theorem dJ30_putVal_247 : decode cJ30_putVal 247 = .ok (.putfield 162, 3) := dk_181 0 162 (dk_at dksJ30_putVal_10 18 rfl rfl)
theorem dJ30_putVal_250 : decode cJ30_putVal 250 = .ok (.aload_n 0, 1) := dk_42 (dk_at dksJ30_putVal_10 21 rfl rfl)
theorem dJ30_putVal_251 : decode cJ30_putVal 251 = .ok (.aload 10, 2) := dk_25 10 (dk_at dksJ30_putVal_10 22 rfl rfl)
theorem dJ30_putVal_253 : decode cJ30_putVal 253 = .ok (.invokevirtual 198, 3) := dk_182 0 198 (dk_at dksJ30_putVal_11 0 rfl rfl)
theorem dJ30_putVal_256 : decode cJ30_putVal 256 = .ok (.aload 12, 2) := dk_25 12 (dk_at dksJ30_putVal_11 3 rfl rfl)
theorem dJ30_putVal_258 : decode cJ30_putVal 258 = .ok (.areturn, 1) := dk_176 (dk_at dksJ30_putVal_11 5 rfl rfl)
theorem dJ30_putVal_259 : decode cJ30_putVal 259 = .ok (.aload_n 0, 1) := dk_42 (dk_at dksJ30_putVal_11 6 rfl rfl)
theorem dJ30_putVal_260 : decode cJ30_putVal 260 = .ok (.dup, 1) := dk_89 (dk_at dksJ30_putVal_11 7 rfl rfl)
theorem dJ30_putVal_261 : decode cJ30_putVal 261 = .ok (.getfield 202, 3) := dk_180 0 202 (dk_at dksJ30_putVal_11 8 rfl rfl)
theorem dJ30_putVal_264 : decode cJ30_putVal 264 = .ok (.iconst 1, 1) := dk_4 (dk_at dksJ30_putVal_11 11 rfl rfl)
theorem dJ30_putVal_265 : decode cJ30_putVal 265 = .ok (.iadd, 1) := dk_96 (dk_at dksJ30_putVal_11 12 rfl rfl)
theorem dJ30_putVal_266 : decode cJ30_putVal 266 = .ok (.putfield 202, 3) := dk_181 0 202 (dk_at dksJ30_putVal_11 13 rfl rfl)
theorem dJ30_putVal_269 : decode cJ30_putVal 269 = .ok (.aload_n 0, 1) := dk_42 (dk_at dksJ30_putVal_11 16 rfl rfl)
theorem dJ30_putVal_270 : decode cJ30_putVal 270 = .ok (.dup, 1) := dk_89 (dk_at dksJ30_putVal_11 17 rfl rfl)
theorem dJ30_putVal_271 : decode cJ30_putVal 271 = .ok (.getfield 156, 3) := dk_180 0 156 (dk_at dksJ30_putVal_11 18 rfl rfl)
theorem dJ30_putVal_274 : decode cJ30_putVal 274 = .ok (.iconst 1, 1) := dk_4 (dk_at dksJ30_putVal_11 21 rfl rfl)
theorem dJ30_putVal_275 : decode cJ30_putVal 275 = .ok (.iadd, 1) := dk_96 (dk_at dksJ30_putVal_11 22 rfl rfl)
theorem dJ30_putVal_276 : decode cJ30_putVal 276 = .ok (.dup_x1, 1) := dk_90 (dk_at dksJ30_putVal_11 23 rfl rfl)
theorem dJ30_putVal_277 : decode cJ30_putVal 277 = .ok (.putfield 156, 3) := dk_181 0 156 (dk_at dksJ30_putVal_12 0 rfl rfl)
theorem dJ30_putVal_280 : decode cJ30_putVal 280 = .ok (.aload_n 0, 1) := dk_42 (dk_at dksJ30_putVal_12 3 rfl rfl)
theorem dJ30_putVal_281 : decode cJ30_putVal 281 = .ok (.getfield 88, 3) := dk_180 0 88 (dk_at dksJ30_putVal_12 4 rfl rfl)
theorem dJ30_putVal_284 : decode cJ30_putVal 284 = .ok (.if_icmp .le 8, 3) := dk_164 0 8 (dk_at dksJ30_putVal_12 7 rfl rfl)
theorem dJ30_putVal_287 : decode cJ30_putVal 287 = .ok (.aload_n 0, 1) := dk_42 (dk_at dksJ30_putVal_12 10 rfl rfl)
theorem dJ30_putVal_288 : decode cJ30_putVal 288 = .ok (.invokevirtual 117, 3) := dk_182 0 117 (dk_at dksJ30_putVal_12 11 rfl rfl)
theorem dJ30_putVal_291 : decode cJ30_putVal 291 = .ok (.pop, 1) := dk_87 (dk_at dksJ30_putVal_12 14 rfl rfl)
theorem dJ30_putVal_292 : decode cJ30_putVal 292 = .ok (.aload_n 0, 1) := dk_42 (dk_at dksJ30_putVal_12 15 rfl rfl)
theorem dJ30_putVal_293 : decode cJ30_putVal 293 = .ok (.iload 5, 2) := dk_21 5 (dk_at dksJ30_putVal_12 16 rfl rfl)
theorem dJ30_putVal_295 : decode cJ30_putVal 295 = .ok (.invokevirtual 205, 3) := dk_182 0 205 (dk_at dksJ30_putVal_12 18 rfl rfl)
theorem dJ30_putVal_298 : decode cJ30_putVal 298 = .ok (.aconst_null, 1) := dk_1 (dk_at dksJ30_putVal_12 21 rfl rfl)
theorem dJ30_putVal_299 : decode cJ30_putVal 299 = .ok (.areturn, 1) := dk_176 (dk_at dksJ30_putVal_12 22 rfl rfl)
abbrev cJ30_resize : ByteArray := prog_68_method_17_code
def yJ30_resize : MethodName := ⟨RJ30, "resize", "()[Ljava/util/HashMap$Node;"⟩
def dkwJ30_resize_15 : List UInt8 := [25, 6, 176]
abbrev dktJ30_resize_15 : List UInt8 := dkwJ30_resize_15 ++ []
def dkwJ30_resize_14 : List UInt8 := [198, 0, 18, 25, 12, 1, 181, 0, 177, 25, 6, 21, 7, 28, 96, 25, 11, 83, 132, 7, 1, 167, 255, 57]
abbrev dktJ30_resize_14 : List UInt8 := dkwJ30_resize_14 ++ dktJ30_resize_15
def dkwJ30_resize_13 : List UInt8 := [199, 255, 185, 25, 10, 198, 0, 16, 25, 10, 1, 181, 0, 177, 25, 6, 21, 7, 25, 9, 83, 25, 12]
abbrev dktJ30_resize_13 : List UInt8 := dkwJ30_resize_13 ++ dktJ30_resize_14
def dkwJ30_resize_12 : List UInt8 := [25, 8, 58, 11, 167, 0, 10, 25, 12, 25, 8, 181, 0, 177, 25, 8, 58, 12, 25, 13, 89, 58, 8]
abbrev dktJ30_resize_12 : List UInt8 := dkwJ30_resize_12 ++ dktJ30_resize_13
def dkwJ30_resize_11 : List UInt8 := [58, 9, 167, 0, 10, 25, 10, 25, 8, 181, 0, 177, 25, 8, 58, 10, 167, 0, 26, 25, 12, 199, 0, 10]
abbrev dktJ30_resize_11 : List UInt8 := dkwJ30_resize_11 ++ dktJ30_resize_12
def dkwJ30_resize_10 : List UInt8 := [25, 8, 180, 0, 177, 58, 13, 25, 8, 180, 0, 168, 28, 126, 154, 0, 29, 25, 10, 199, 0, 10, 25, 8]
abbrev dktJ30_resize_10 : List UInt8 := dkwJ30_resize_10 ++ dktJ30_resize_11
def dkwJ30_resize_9 : List UInt8 := [42, 25, 6, 21, 7, 28, 182, 0, 211, 167, 0, 127, 1, 58, 9, 1, 58, 10, 1, 58, 11, 1, 58, 12]
abbrev dktJ30_resize_9 : List UInt8 := dkwJ30_resize_9 ++ dktJ30_resize_10
def dkwJ30_resize_8 : List UInt8 := [21, 4, 4, 100, 126, 25, 8, 83, 167, 0, 152, 25, 8, 193, 0, 180, 153, 0, 20, 25, 8, 192, 0, 180]
abbrev dktJ30_resize_8 : List UInt8 := dkwJ30_resize_8 ++ dktJ30_resize_9
def dkwJ30_resize_7 : List UInt8 := [198, 0, 183, 43, 21, 7, 1, 83, 25, 8, 180, 0, 177, 199, 0, 21, 25, 6, 25, 8, 180, 0, 168]
abbrev dktJ30_resize_7 : List UInt8 := dkwJ30_resize_7 ++ dktJ30_resize_8
def dkwJ30_resize_6 : List UInt8 := [181, 0, 105, 43, 198, 0, 208, 3, 54, 7, 21, 7, 28, 162, 0, 199, 43, 21, 7, 50, 89, 58, 8]
abbrev dktJ30_resize_6 : List UInt8 := dkwJ30_resize_6 ++ dktJ30_resize_7
def dkwJ30_resize_5 : List UInt8 := [167, 0, 5, 18, 209, 54, 5, 42, 21, 5, 181, 0, 88, 21, 4, 189, 0, 163, 58, 6, 42, 25, 6]
abbrev dktJ30_resize_5 : List UInt8 := dkwJ30_resize_5 ++ dktJ30_resize_6
def dkwJ30_resize_4 : List UInt8 := [180, 0, 81, 106, 56, 6, 21, 4, 18, 42, 162, 0, 17, 23, 6, 18, 210, 150, 156, 0, 9, 23, 6, 139]
abbrev dktJ30_resize_4 : List UInt8 := dkwJ30_resize_4 ++ dktJ30_resize_5
def dkwJ30_resize_3 : List UInt8 := [54, 4, 167, 0, 11, 16, 16, 54, 4, 16, 12, 54, 5, 21, 5, 154, 0, 38, 21, 4, 134, 42]
abbrev dktJ30_resize_3 : List UInt8 := dkwJ30_resize_3 ++ dktJ30_resize_4
def dkwJ30_resize_2 : List UInt8 := [18, 42, 162, 0, 35, 28, 16, 16, 161, 0, 29, 29, 4, 120, 54, 5, 167, 0, 21, 29, 158, 0, 9, 29]
abbrev dktJ30_resize_2 : List UInt8 := dkwJ30_resize_2 ++ dktJ30_resize_3
def dkwJ30_resize_1 : List UInt8 := [28, 158, 0, 42, 28, 18, 42, 161, 0, 11, 42, 18, 209, 181, 0, 88, 43, 176, 28, 4, 120, 89, 54, 4]
abbrev dktJ30_resize_1 : List UInt8 := dkwJ30_resize_1 ++ dktJ30_resize_2
def dkwJ30_resize_0 : List UInt8 := [42, 180, 0, 105, 76, 43, 199, 0, 7, 3, 167, 0, 5, 43, 190, 61, 42, 180, 0, 88, 62, 3, 54, 5]
abbrev dktJ30_resize_0 : List UInt8 := dkwJ30_resize_0 ++ dktJ30_resize_1
theorem dksJ30_resize_0 : cJ30_resize.data.toList.drop 0 = dktJ30_resize_0 := by decide +kernel
theorem dksJ30_resize_1 : cJ30_resize.data.toList.drop 24 = dktJ30_resize_1 := dk_seg dksJ30_resize_0 24 rfl rfl
theorem dksJ30_resize_2 : cJ30_resize.data.toList.drop 48 = dktJ30_resize_2 := dk_seg dksJ30_resize_1 24 rfl rfl
theorem dksJ30_resize_3 : cJ30_resize.data.toList.drop 72 = dktJ30_resize_3 := dk_seg dksJ30_resize_2 24 rfl rfl
theorem dksJ30_resize_4 : cJ30_resize.data.toList.drop 94 = dktJ30_resize_4 := dk_seg dksJ30_resize_3 22 rfl rfl
theorem dksJ30_resize_5 : cJ30_resize.data.toList.drop 118 = dktJ30_resize_5 := dk_seg dksJ30_resize_4 24 rfl rfl
theorem dksJ30_resize_6 : cJ30_resize.data.toList.drop 141 = dktJ30_resize_6 := dk_seg dksJ30_resize_5 23 rfl rfl
theorem dksJ30_resize_7 : cJ30_resize.data.toList.drop 164 = dktJ30_resize_7 := dk_seg dksJ30_resize_6 23 rfl rfl
theorem dksJ30_resize_8 : cJ30_resize.data.toList.drop 187 = dktJ30_resize_8 := dk_seg dksJ30_resize_7 23 rfl rfl
theorem dksJ30_resize_9 : cJ30_resize.data.toList.drop 211 = dktJ30_resize_9 := dk_seg dksJ30_resize_8 24 rfl rfl
theorem dksJ30_resize_10 : cJ30_resize.data.toList.drop 235 = dktJ30_resize_10 := dk_seg dksJ30_resize_9 24 rfl rfl
theorem dksJ30_resize_11 : cJ30_resize.data.toList.drop 259 = dktJ30_resize_11 := dk_seg dksJ30_resize_10 24 rfl rfl
theorem dksJ30_resize_12 : cJ30_resize.data.toList.drop 283 = dktJ30_resize_12 := dk_seg dksJ30_resize_11 24 rfl rfl
theorem dksJ30_resize_13 : cJ30_resize.data.toList.drop 306 = dktJ30_resize_13 := dk_seg dksJ30_resize_12 23 rfl rfl
theorem dksJ30_resize_14 : cJ30_resize.data.toList.drop 329 = dktJ30_resize_14 := dk_seg dksJ30_resize_13 23 rfl rfl
theorem dksJ30_resize_15 : cJ30_resize.data.toList.drop 353 = dktJ30_resize_15 := dk_seg dksJ30_resize_14 24 rfl rfl
theorem dJ30_resize_0 : decode cJ30_resize 0 = .ok (.aload_n 0, 1) := dk_42 (dk_at dksJ30_resize_0 0 rfl rfl)
theorem dJ30_resize_1 : decode cJ30_resize 1 = .ok (.getfield 105, 3) := dk_180 0 105 (dk_at dksJ30_resize_0 1 rfl rfl)
theorem dJ30_resize_4 : decode cJ30_resize 4 = .ok (.astore_n 1, 1) := dk_76 (dk_at dksJ30_resize_0 4 rfl rfl)
theorem dJ30_resize_5 : decode cJ30_resize 5 = .ok (.aload_n 1, 1) := dk_43 (dk_at dksJ30_resize_0 5 rfl rfl)
theorem dJ30_resize_6 : decode cJ30_resize 6 = .ok (.ifnonnull 7, 3) := dk_199 0 7 (dk_at dksJ30_resize_0 6 rfl rfl)
theorem dJ30_resize_9 : decode cJ30_resize 9 = .ok (.iconst 0, 1) := dk_3 (dk_at dksJ30_resize_0 9 rfl rfl)
theorem dJ30_resize_10 : decode cJ30_resize 10 = .ok (.goto 5, 3) := dk_167 0 5 (dk_at dksJ30_resize_0 10 rfl rfl)
theorem dJ30_resize_13 : decode cJ30_resize 13 = .ok (.aload_n 1, 1) := dk_43 (dk_at dksJ30_resize_0 13 rfl rfl)
theorem dJ30_resize_14 : decode cJ30_resize 14 = .ok (.arraylength, 1) := dk_190 (dk_at dksJ30_resize_0 14 rfl rfl)
theorem dJ30_resize_15 : decode cJ30_resize 15 = .ok (.istore_n 2, 1) := dk_61 (dk_at dksJ30_resize_0 15 rfl rfl)
theorem dJ30_resize_16 : decode cJ30_resize 16 = .ok (.aload_n 0, 1) := dk_42 (dk_at dksJ30_resize_0 16 rfl rfl)
theorem dJ30_resize_17 : decode cJ30_resize 17 = .ok (.getfield 88, 3) := dk_180 0 88 (dk_at dksJ30_resize_0 17 rfl rfl)
theorem dJ30_resize_20 : decode cJ30_resize 20 = .ok (.istore_n 3, 1) := dk_62 (dk_at dksJ30_resize_0 20 rfl rfl)
theorem dJ30_resize_21 : decode cJ30_resize 21 = .ok (.iconst 0, 1) := dk_3 (dk_at dksJ30_resize_0 21 rfl rfl)
theorem dJ30_resize_22 : decode cJ30_resize 22 = .ok (.istore 5, 2) := dk_54 5 (dk_at dksJ30_resize_0 22 rfl rfl)
theorem dJ30_resize_24 : decode cJ30_resize 24 = .ok (.iload_n 2, 1) := dk_28 (dk_at dksJ30_resize_1 0 rfl rfl)
theorem dJ30_resize_25 : decode cJ30_resize 25 = .ok (.ifCond .le 42, 3) := dk_158 0 42 (dk_at dksJ30_resize_1 1 rfl rfl)
theorem dJ30_resize_28 : decode cJ30_resize 28 = .ok (.iload_n 2, 1) := dk_28 (dk_at dksJ30_resize_1 4 rfl rfl)
theorem dJ30_resize_29 : decode cJ30_resize 29 = .ok (.ldc 42, 2) := dk_18 42 (dk_at dksJ30_resize_1 5 rfl rfl)
theorem dJ30_resize_31 : decode cJ30_resize 31 = .ok (.if_icmp .lt 11, 3) := dk_161 0 11 (dk_at dksJ30_resize_1 7 rfl rfl)
theorem dJ30_resize_34 : decode cJ30_resize 34 = .ok (.aload_n 0, 1) := dk_42 (dk_at dksJ30_resize_1 10 rfl rfl)
theorem dJ30_resize_35 : decode cJ30_resize 35 = .ok (.ldc 209, 2) := dk_18 209 (dk_at dksJ30_resize_1 11 rfl rfl)
theorem dJ30_resize_37 : decode cJ30_resize 37 = .ok (.putfield 88, 3) := dk_181 0 88 (dk_at dksJ30_resize_1 13 rfl rfl)
theorem dJ30_resize_40 : decode cJ30_resize 40 = .ok (.aload_n 1, 1) := dk_43 (dk_at dksJ30_resize_1 16 rfl rfl)
theorem dJ30_resize_41 : decode cJ30_resize 41 = .ok (.areturn, 1) := dk_176 (dk_at dksJ30_resize_1 17 rfl rfl)
theorem dJ30_resize_42 : decode cJ30_resize 42 = .ok (.iload_n 2, 1) := dk_28 (dk_at dksJ30_resize_1 18 rfl rfl)
theorem dJ30_resize_43 : decode cJ30_resize 43 = .ok (.iconst 1, 1) := dk_4 (dk_at dksJ30_resize_1 19 rfl rfl)
theorem dJ30_resize_44 : decode cJ30_resize 44 = .ok (.ishl, 1) := dk_120 (dk_at dksJ30_resize_1 20 rfl rfl)
theorem dJ30_resize_45 : decode cJ30_resize 45 = .ok (.dup, 1) := dk_89 (dk_at dksJ30_resize_1 21 rfl rfl)
theorem dJ30_resize_46 : decode cJ30_resize 46 = .ok (.istore 4, 2) := dk_54 4 (dk_at dksJ30_resize_1 22 rfl rfl)
theorem dJ30_resize_48 : decode cJ30_resize 48 = .ok (.ldc 42, 2) := dk_18 42 (dk_at dksJ30_resize_2 0 rfl rfl)
theorem dJ30_resize_50 : decode cJ30_resize 50 = .ok (.if_icmp .ge 35, 3) := dk_162 0 35 (dk_at dksJ30_resize_2 2 rfl rfl)
theorem dJ30_resize_53 : decode cJ30_resize 53 = .ok (.iload_n 2, 1) := dk_28 (dk_at dksJ30_resize_2 5 rfl rfl)
theorem dJ30_resize_54 : decode cJ30_resize 54 = .ok (.bipush 16, 2) := dk_16 16 (dk_at dksJ30_resize_2 6 rfl rfl)
theorem dJ30_resize_56 : decode cJ30_resize 56 = .ok (.if_icmp .lt 29, 3) := dk_161 0 29 (dk_at dksJ30_resize_2 8 rfl rfl)
theorem dJ30_resize_59 : decode cJ30_resize 59 = .ok (.iload_n 3, 1) := dk_29 (dk_at dksJ30_resize_2 11 rfl rfl)
theorem dJ30_resize_60 : decode cJ30_resize 60 = .ok (.iconst 1, 1) := dk_4 (dk_at dksJ30_resize_2 12 rfl rfl)
theorem dJ30_resize_61 : decode cJ30_resize 61 = .ok (.ishl, 1) := dk_120 (dk_at dksJ30_resize_2 13 rfl rfl)
theorem dJ30_resize_62 : decode cJ30_resize 62 = .ok (.istore 5, 2) := dk_54 5 (dk_at dksJ30_resize_2 14 rfl rfl)
theorem dJ30_resize_64 : decode cJ30_resize 64 = .ok (.goto 21, 3) := dk_167 0 21 (dk_at dksJ30_resize_2 16 rfl rfl)
theorem dJ30_resize_67 : decode cJ30_resize 67 = .ok (.iload_n 3, 1) := dk_29 (dk_at dksJ30_resize_2 19 rfl rfl)
theorem dJ30_resize_68 : decode cJ30_resize 68 = .ok (.ifCond .le 9, 3) := dk_158 0 9 (dk_at dksJ30_resize_2 20 rfl rfl)
theorem dJ30_resize_71 : decode cJ30_resize 71 = .ok (.iload_n 3, 1) := dk_29 (dk_at dksJ30_resize_2 23 rfl rfl)
theorem dJ30_resize_72 : decode cJ30_resize 72 = .ok (.istore 4, 2) := dk_54 4 (dk_at dksJ30_resize_3 0 rfl rfl)
theorem dJ30_resize_74 : decode cJ30_resize 74 = .ok (.goto 11, 3) := dk_167 0 11 (dk_at dksJ30_resize_3 2 rfl rfl)
theorem dJ30_resize_77 : decode cJ30_resize 77 = .ok (.bipush 16, 2) := dk_16 16 (dk_at dksJ30_resize_3 5 rfl rfl)
theorem dJ30_resize_79 : decode cJ30_resize 79 = .ok (.istore 4, 2) := dk_54 4 (dk_at dksJ30_resize_3 7 rfl rfl)
theorem dJ30_resize_81 : decode cJ30_resize 81 = .ok (.bipush 12, 2) := dk_16 12 (dk_at dksJ30_resize_3 9 rfl rfl)
theorem dJ30_resize_83 : decode cJ30_resize 83 = .ok (.istore 5, 2) := dk_54 5 (dk_at dksJ30_resize_3 11 rfl rfl)
theorem dJ30_resize_85 : decode cJ30_resize 85 = .ok (.iload 5, 2) := dk_21 5 (dk_at dksJ30_resize_3 13 rfl rfl)
theorem dJ30_resize_87 : decode cJ30_resize 87 = .ok (.ifCond .ne 38, 3) := dk_154 0 38 (dk_at dksJ30_resize_3 15 rfl rfl)
theorem dJ30_resize_90 : decode cJ30_resize 90 = .ok (.iload 4, 2) := dk_21 4 (dk_at dksJ30_resize_3 18 rfl rfl)
theorem dJ30_resize_92 : decode cJ30_resize 92 = .ok (.i2f, 1) := dk_134 (dk_at dksJ30_resize_3 20 rfl rfl)
theorem dJ30_resize_93 : decode cJ30_resize 93 = .ok (.aload_n 0, 1) := dk_42 (dk_at dksJ30_resize_3 21 rfl rfl)
theorem dJ30_resize_94 : decode cJ30_resize 94 = .ok (.getfield 81, 3) := dk_180 0 81 (dk_at dksJ30_resize_4 0 rfl rfl)
theorem dJ30_resize_97 : decode cJ30_resize 97 = .ok (.fmul, 1) := dk_106 (dk_at dksJ30_resize_4 3 rfl rfl)
theorem dJ30_resize_98 : decode cJ30_resize 98 = .ok (.fstore 6, 2) := dk_56 6 (dk_at dksJ30_resize_4 4 rfl rfl)
theorem dJ30_resize_100 : decode cJ30_resize 100 = .ok (.iload 4, 2) := dk_21 4 (dk_at dksJ30_resize_4 6 rfl rfl)
theorem dJ30_resize_102 : decode cJ30_resize 102 = .ok (.ldc 42, 2) := dk_18 42 (dk_at dksJ30_resize_4 8 rfl rfl)
theorem dJ30_resize_104 : decode cJ30_resize 104 = .ok (.if_icmp .ge 17, 3) := dk_162 0 17 (dk_at dksJ30_resize_4 10 rfl rfl)
theorem dJ30_resize_107 : decode cJ30_resize 107 = .ok (.fload 6, 2) := dk_23 6 (dk_at dksJ30_resize_4 13 rfl rfl)
theorem dJ30_resize_109 : decode cJ30_resize 109 = .ok (.ldc 210, 2) := dk_18 210 (dk_at dksJ30_resize_4 15 rfl rfl)
theorem dJ30_resize_111 : decode cJ30_resize 111 = .ok (.fcmp .g, 1) := dk_150 (dk_at dksJ30_resize_4 17 rfl rfl)
theorem dJ30_resize_112 : decode cJ30_resize 112 = .ok (.ifCond .ge 9, 3) := dk_156 0 9 (dk_at dksJ30_resize_4 18 rfl rfl)
theorem dJ30_resize_115 : decode cJ30_resize 115 = .ok (.fload 6, 2) := dk_23 6 (dk_at dksJ30_resize_4 21 rfl rfl)
theorem dJ30_resize_117 : decode cJ30_resize 117 = .ok (.f2i, 1) := dk_139 (dk_at dksJ30_resize_4 23 rfl rfl)
theorem dJ30_resize_118 : decode cJ30_resize 118 = .ok (.goto 5, 3) := dk_167 0 5 (dk_at dksJ30_resize_5 0 rfl rfl)
theorem dJ30_resize_121 : decode cJ30_resize 121 = .ok (.ldc 209, 2) := dk_18 209 (dk_at dksJ30_resize_5 3 rfl rfl)
theorem dJ30_resize_123 : decode cJ30_resize 123 = .ok (.istore 5, 2) := dk_54 5 (dk_at dksJ30_resize_5 5 rfl rfl)
theorem dJ30_resize_125 : decode cJ30_resize 125 = .ok (.aload_n 0, 1) := dk_42 (dk_at dksJ30_resize_5 7 rfl rfl)
theorem dJ30_resize_126 : decode cJ30_resize 126 = .ok (.iload 5, 2) := dk_21 5 (dk_at dksJ30_resize_5 8 rfl rfl)
theorem dJ30_resize_128 : decode cJ30_resize 128 = .ok (.putfield 88, 3) := dk_181 0 88 (dk_at dksJ30_resize_5 10 rfl rfl)
theorem dJ30_resize_131 : decode cJ30_resize 131 = .ok (.iload 4, 2) := dk_21 4 (dk_at dksJ30_resize_5 13 rfl rfl)
theorem dJ30_resize_133 : decode cJ30_resize 133 = .ok (.anewarray 163, 3) := dk_189 0 163 (dk_at dksJ30_resize_5 15 rfl rfl)
theorem dJ30_resize_136 : decode cJ30_resize 136 = .ok (.astore 6, 2) := dk_58 6 (dk_at dksJ30_resize_5 18 rfl rfl)
theorem dJ30_resize_138 : decode cJ30_resize 138 = .ok (.aload_n 0, 1) := dk_42 (dk_at dksJ30_resize_5 20 rfl rfl)
theorem dJ30_resize_139 : decode cJ30_resize 139 = .ok (.aload 6, 2) := dk_25 6 (dk_at dksJ30_resize_5 21 rfl rfl)
theorem dJ30_resize_141 : decode cJ30_resize 141 = .ok (.putfield 105, 3) := dk_181 0 105 (dk_at dksJ30_resize_6 0 rfl rfl)
theorem dJ30_resize_144 : decode cJ30_resize 144 = .ok (.aload_n 1, 1) := dk_43 (dk_at dksJ30_resize_6 3 rfl rfl)
theorem dJ30_resize_145 : decode cJ30_resize 145 = .ok (.ifnull 208, 3) := dk_198 0 208 (dk_at dksJ30_resize_6 4 rfl rfl)
theorem dJ30_resize_148 : decode cJ30_resize 148 = .ok (.iconst 0, 1) := dk_3 (dk_at dksJ30_resize_6 7 rfl rfl)
theorem dJ30_resize_149 : decode cJ30_resize 149 = .ok (.istore 7, 2) := dk_54 7 (dk_at dksJ30_resize_6 8 rfl rfl)
theorem dJ30_resize_151 : decode cJ30_resize 151 = .ok (.iload 7, 2) := dk_21 7 (dk_at dksJ30_resize_6 10 rfl rfl)
theorem dJ30_resize_153 : decode cJ30_resize 153 = .ok (.iload_n 2, 1) := dk_28 (dk_at dksJ30_resize_6 12 rfl rfl)
theorem dJ30_resize_154 : decode cJ30_resize 154 = .ok (.if_icmp .ge 199, 3) := dk_162 0 199 (dk_at dksJ30_resize_6 13 rfl rfl)
theorem dJ30_resize_157 : decode cJ30_resize 157 = .ok (.aload_n 1, 1) := dk_43 (dk_at dksJ30_resize_6 16 rfl rfl)
theorem dJ30_resize_158 : decode cJ30_resize 158 = .ok (.iload 7, 2) := dk_21 7 (dk_at dksJ30_resize_6 17 rfl rfl)
theorem dJ30_resize_160 : decode cJ30_resize 160 = .ok (.aaload, 1) := dk_50 (dk_at dksJ30_resize_6 19 rfl rfl)
theorem dJ30_resize_161 : decode cJ30_resize 161 = .ok (.dup, 1) := dk_89 (dk_at dksJ30_resize_6 20 rfl rfl)
theorem dJ30_resize_162 : decode cJ30_resize 162 = .ok (.astore 8, 2) := dk_58 8 (dk_at dksJ30_resize_6 21 rfl rfl)
theorem dJ30_resize_164 : decode cJ30_resize 164 = .ok (.ifnull 183, 3) := dk_198 0 183 (dk_at dksJ30_resize_7 0 rfl rfl)
theorem dJ30_resize_167 : decode cJ30_resize 167 = .ok (.aload_n 1, 1) := dk_43 (dk_at dksJ30_resize_7 3 rfl rfl)
theorem dJ30_resize_168 : decode cJ30_resize 168 = .ok (.iload 7, 2) := dk_21 7 (dk_at dksJ30_resize_7 4 rfl rfl)
theorem dJ30_resize_170 : decode cJ30_resize 170 = .ok (.aconst_null, 1) := dk_1 (dk_at dksJ30_resize_7 6 rfl rfl)
theorem dJ30_resize_171 : decode cJ30_resize 171 = .ok (.aastore, 1) := dk_83 (dk_at dksJ30_resize_7 7 rfl rfl)
theorem dJ30_resize_172 : decode cJ30_resize 172 = .ok (.aload 8, 2) := dk_25 8 (dk_at dksJ30_resize_7 8 rfl rfl)
theorem dJ30_resize_174 : decode cJ30_resize 174 = .ok (.getfield 177, 3) := dk_180 0 177 (dk_at dksJ30_resize_7 10 rfl rfl)
theorem dJ30_resize_177 : decode cJ30_resize 177 = .ok (.ifnonnull 21, 3) := dk_199 0 21 (dk_at dksJ30_resize_7 13 rfl rfl)
theorem dJ30_resize_180 : decode cJ30_resize 180 = .ok (.aload 6, 2) := dk_25 6 (dk_at dksJ30_resize_7 16 rfl rfl)
theorem dJ30_resize_182 : decode cJ30_resize 182 = .ok (.aload 8, 2) := dk_25 8 (dk_at dksJ30_resize_7 18 rfl rfl)
theorem dJ30_resize_184 : decode cJ30_resize 184 = .ok (.getfield 168, 3) := dk_180 0 168 (dk_at dksJ30_resize_7 20 rfl rfl)
theorem dJ30_resize_187 : decode cJ30_resize 187 = .ok (.iload 4, 2) := dk_21 4 (dk_at dksJ30_resize_8 0 rfl rfl)
theorem dJ30_resize_189 : decode cJ30_resize 189 = .ok (.iconst 1, 1) := dk_4 (dk_at dksJ30_resize_8 2 rfl rfl)
theorem dJ30_resize_190 : decode cJ30_resize 190 = .ok (.isub, 1) := dk_100 (dk_at dksJ30_resize_8 3 rfl rfl)
theorem dJ30_resize_191 : decode cJ30_resize 191 = .ok (.iand, 1) := dk_126 (dk_at dksJ30_resize_8 4 rfl rfl)
theorem dJ30_resize_192 : decode cJ30_resize 192 = .ok (.aload 8, 2) := dk_25 8 (dk_at dksJ30_resize_8 5 rfl rfl)
theorem dJ30_resize_194 : decode cJ30_resize 194 = .ok (.aastore, 1) := dk_83 (dk_at dksJ30_resize_8 7 rfl rfl)
theorem dJ30_resize_195 : decode cJ30_resize 195 = .ok (.goto 152, 3) := dk_167 0 152 (dk_at dksJ30_resize_8 8 rfl rfl)
theorem dJ30_resize_198 : decode cJ30_resize 198 = .ok (.aload 8, 2) := dk_25 8 (dk_at dksJ30_resize_8 11 rfl rfl)
theorem dJ30_resize_200 : decode cJ30_resize 200 = .ok (.instanceof 180, 3) := dk_193 0 180 (dk_at dksJ30_resize_8 13 rfl rfl)
theorem dJ30_resize_203 : decode cJ30_resize 203 = .ok (.ifCond .eq 20, 3) := dk_153 0 20 (dk_at dksJ30_resize_8 16 rfl rfl)
theorem dJ30_resize_206 : decode cJ30_resize 206 = .ok (.aload 8, 2) := dk_25 8 (dk_at dksJ30_resize_8 19 rfl rfl)
theorem dJ30_resize_208 : decode cJ30_resize 208 = .ok (.checkcast 180, 3) := dk_192 0 180 (dk_at dksJ30_resize_8 21 rfl rfl)
theorem dJ30_resize_211 : decode cJ30_resize 211 = .ok (.aload_n 0, 1) := dk_42 (dk_at dksJ30_resize_9 0 rfl rfl)
theorem dJ30_resize_212 : decode cJ30_resize 212 = .ok (.aload 6, 2) := dk_25 6 (dk_at dksJ30_resize_9 1 rfl rfl)
theorem dJ30_resize_214 : decode cJ30_resize 214 = .ok (.iload 7, 2) := dk_21 7 (dk_at dksJ30_resize_9 3 rfl rfl)
theorem dJ30_resize_216 : decode cJ30_resize 216 = .ok (.iload_n 2, 1) := dk_28 (dk_at dksJ30_resize_9 5 rfl rfl)
theorem dJ30_resize_217 : decode cJ30_resize 217 = .ok (.invokevirtual 211, 3) := dk_182 0 211 (dk_at dksJ30_resize_9 6 rfl rfl)
theorem dJ30_resize_220 : decode cJ30_resize 220 = .ok (.goto 127, 3) := dk_167 0 127 (dk_at dksJ30_resize_9 9 rfl rfl)
theorem dJ30_resize_223 : decode cJ30_resize 223 = .ok (.aconst_null, 1) := dk_1 (dk_at dksJ30_resize_9 12 rfl rfl)
theorem dJ30_resize_224 : decode cJ30_resize 224 = .ok (.astore 9, 2) := dk_58 9 (dk_at dksJ30_resize_9 13 rfl rfl)
theorem dJ30_resize_226 : decode cJ30_resize 226 = .ok (.aconst_null, 1) := dk_1 (dk_at dksJ30_resize_9 15 rfl rfl)
theorem dJ30_resize_227 : decode cJ30_resize 227 = .ok (.astore 10, 2) := dk_58 10 (dk_at dksJ30_resize_9 16 rfl rfl)
theorem dJ30_resize_229 : decode cJ30_resize 229 = .ok (.aconst_null, 1) := dk_1 (dk_at dksJ30_resize_9 18 rfl rfl)
theorem dJ30_resize_230 : decode cJ30_resize 230 = .ok (.astore 11, 2) := dk_58 11 (dk_at dksJ30_resize_9 19 rfl rfl)
theorem dJ30_resize_232 : decode cJ30_resize 232 = .ok (.aconst_null, 1) := dk_1 (dk_at dksJ30_resize_9 21 rfl rfl)
theorem dJ30_resize_233 : decode cJ30_resize 233 = .ok (.astore 12, 2) := dk_58 12 (dk_at dksJ30_resize_9 22 rfl rfl)
theorem dJ30_resize_235 : decode cJ30_resize 235 = .ok (.aload 8, 2) := dk_25 8 (dk_at dksJ30_resize_10 0 rfl rfl)
theorem dJ30_resize_237 : decode cJ30_resize 237 = .ok (.getfield 177, 3) := dk_180 0 177 (dk_at dksJ30_resize_10 2 rfl rfl)
theorem dJ30_resize_240 : decode cJ30_resize 240 = .ok (.astore 13, 2) := dk_58 13 (dk_at dksJ30_resize_10 5 rfl rfl)
theorem dJ30_resize_242 : decode cJ30_resize 242 = .ok (.aload 8, 2) := dk_25 8 (dk_at dksJ30_resize_10 7 rfl rfl)
theorem dJ30_resize_244 : decode cJ30_resize 244 = .ok (.getfield 168, 3) := dk_180 0 168 (dk_at dksJ30_resize_10 9 rfl rfl)
theorem dJ30_resize_247 : decode cJ30_resize 247 = .ok (.iload_n 2, 1) := dk_28 (dk_at dksJ30_resize_10 12 rfl rfl)
theorem dJ30_resize_248 : decode cJ30_resize 248 = .ok (.iand, 1) := dk_126 (dk_at dksJ30_resize_10 13 rfl rfl)
theorem dJ30_resize_249 : decode cJ30_resize 249 = .ok (.ifCond .ne 29, 3) := dk_154 0 29 (dk_at dksJ30_resize_10 14 rfl rfl)
theorem dJ30_resize_252 : decode cJ30_resize 252 = .ok (.aload 10, 2) := dk_25 10 (dk_at dksJ30_resize_10 17 rfl rfl)
theorem dJ30_resize_254 : decode cJ30_resize 254 = .ok (.ifnonnull 10, 3) := dk_199 0 10 (dk_at dksJ30_resize_10 19 rfl rfl)
theorem dJ30_resize_257 : decode cJ30_resize 257 = .ok (.aload 8, 2) := dk_25 8 (dk_at dksJ30_resize_10 22 rfl rfl)
theorem dJ30_resize_259 : decode cJ30_resize 259 = .ok (.astore 9, 2) := dk_58 9 (dk_at dksJ30_resize_11 0 rfl rfl)
theorem dJ30_resize_261 : decode cJ30_resize 261 = .ok (.goto 10, 3) := dk_167 0 10 (dk_at dksJ30_resize_11 2 rfl rfl)
theorem dJ30_resize_264 : decode cJ30_resize 264 = .ok (.aload 10, 2) := dk_25 10 (dk_at dksJ30_resize_11 5 rfl rfl)
theorem dJ30_resize_266 : decode cJ30_resize 266 = .ok (.aload 8, 2) := dk_25 8 (dk_at dksJ30_resize_11 7 rfl rfl)
theorem dJ30_resize_268 : decode cJ30_resize 268 = .ok (.putfield 177, 3) := dk_181 0 177 (dk_at dksJ30_resize_11 9 rfl rfl)
theorem dJ30_resize_271 : decode cJ30_resize 271 = .ok (.aload 8, 2) := dk_25 8 (dk_at dksJ30_resize_11 12 rfl rfl)
theorem dJ30_resize_273 : decode cJ30_resize 273 = .ok (.astore 10, 2) := dk_58 10 (dk_at dksJ30_resize_11 14 rfl rfl)
theorem dJ30_resize_275 : decode cJ30_resize 275 = .ok (.goto 26, 3) := dk_167 0 26 (dk_at dksJ30_resize_11 16 rfl rfl)
theorem dJ30_resize_278 : decode cJ30_resize 278 = .ok (.aload 12, 2) := dk_25 12 (dk_at dksJ30_resize_11 19 rfl rfl)
theorem dJ30_resize_280 : decode cJ30_resize 280 = .ok (.ifnonnull 10, 3) := dk_199 0 10 (dk_at dksJ30_resize_11 21 rfl rfl)
theorem dJ30_resize_283 : decode cJ30_resize 283 = .ok (.aload 8, 2) := dk_25 8 (dk_at dksJ30_resize_12 0 rfl rfl)
theorem dJ30_resize_285 : decode cJ30_resize 285 = .ok (.astore 11, 2) := dk_58 11 (dk_at dksJ30_resize_12 2 rfl rfl)
theorem dJ30_resize_287 : decode cJ30_resize 287 = .ok (.goto 10, 3) := dk_167 0 10 (dk_at dksJ30_resize_12 4 rfl rfl)
theorem dJ30_resize_290 : decode cJ30_resize 290 = .ok (.aload 12, 2) := dk_25 12 (dk_at dksJ30_resize_12 7 rfl rfl)
theorem dJ30_resize_292 : decode cJ30_resize 292 = .ok (.aload 8, 2) := dk_25 8 (dk_at dksJ30_resize_12 9 rfl rfl)
theorem dJ30_resize_294 : decode cJ30_resize 294 = .ok (.putfield 177, 3) := dk_181 0 177 (dk_at dksJ30_resize_12 11 rfl rfl)
theorem dJ30_resize_297 : decode cJ30_resize 297 = .ok (.aload 8, 2) := dk_25 8 (dk_at dksJ30_resize_12 14 rfl rfl)
theorem dJ30_resize_299 : decode cJ30_resize 299 = .ok (.astore 12, 2) := dk_58 12 (dk_at dksJ30_resize_12 16 rfl rfl)
theorem dJ30_resize_301 : decode cJ30_resize 301 = .ok (.aload 13, 2) := dk_25 13 (dk_at dksJ30_resize_12 18 rfl rfl)
theorem dJ30_resize_303 : decode cJ30_resize 303 = .ok (.dup, 1) := dk_89 (dk_at dksJ30_resize_12 20 rfl rfl)
theorem dJ30_resize_304 : decode cJ30_resize 304 = .ok (.astore 8, 2) := dk_58 8 (dk_at dksJ30_resize_12 21 rfl rfl)
theorem dJ30_resize_306 : decode cJ30_resize 306 = .ok (.ifnonnull (-71), 3) := dk_199 255 185 (dk_at dksJ30_resize_13 0 rfl rfl)
theorem dJ30_resize_309 : decode cJ30_resize 309 = .ok (.aload 10, 2) := dk_25 10 (dk_at dksJ30_resize_13 3 rfl rfl)
theorem dJ30_resize_311 : decode cJ30_resize 311 = .ok (.ifnull 16, 3) := dk_198 0 16 (dk_at dksJ30_resize_13 5 rfl rfl)
theorem dJ30_resize_314 : decode cJ30_resize 314 = .ok (.aload 10, 2) := dk_25 10 (dk_at dksJ30_resize_13 8 rfl rfl)
theorem dJ30_resize_316 : decode cJ30_resize 316 = .ok (.aconst_null, 1) := dk_1 (dk_at dksJ30_resize_13 10 rfl rfl)
theorem dJ30_resize_317 : decode cJ30_resize 317 = .ok (.putfield 177, 3) := dk_181 0 177 (dk_at dksJ30_resize_13 11 rfl rfl)
theorem dJ30_resize_320 : decode cJ30_resize 320 = .ok (.aload 6, 2) := dk_25 6 (dk_at dksJ30_resize_13 14 rfl rfl)
theorem dJ30_resize_322 : decode cJ30_resize 322 = .ok (.iload 7, 2) := dk_21 7 (dk_at dksJ30_resize_13 16 rfl rfl)
theorem dJ30_resize_324 : decode cJ30_resize 324 = .ok (.aload 9, 2) := dk_25 9 (dk_at dksJ30_resize_13 18 rfl rfl)
theorem dJ30_resize_326 : decode cJ30_resize 326 = .ok (.aastore, 1) := dk_83 (dk_at dksJ30_resize_13 20 rfl rfl)
theorem dJ30_resize_327 : decode cJ30_resize 327 = .ok (.aload 12, 2) := dk_25 12 (dk_at dksJ30_resize_13 21 rfl rfl)
theorem dJ30_resize_329 : decode cJ30_resize 329 = .ok (.ifnull 18, 3) := dk_198 0 18 (dk_at dksJ30_resize_14 0 rfl rfl)
theorem dJ30_resize_332 : decode cJ30_resize 332 = .ok (.aload 12, 2) := dk_25 12 (dk_at dksJ30_resize_14 3 rfl rfl)
theorem dJ30_resize_334 : decode cJ30_resize 334 = .ok (.aconst_null, 1) := dk_1 (dk_at dksJ30_resize_14 5 rfl rfl)
theorem dJ30_resize_335 : decode cJ30_resize 335 = .ok (.putfield 177, 3) := dk_181 0 177 (dk_at dksJ30_resize_14 6 rfl rfl)
theorem dJ30_resize_338 : decode cJ30_resize 338 = .ok (.aload 6, 2) := dk_25 6 (dk_at dksJ30_resize_14 9 rfl rfl)
theorem dJ30_resize_340 : decode cJ30_resize 340 = .ok (.iload 7, 2) := dk_21 7 (dk_at dksJ30_resize_14 11 rfl rfl)
theorem dJ30_resize_342 : decode cJ30_resize 342 = .ok (.iload_n 2, 1) := dk_28 (dk_at dksJ30_resize_14 13 rfl rfl)
theorem dJ30_resize_343 : decode cJ30_resize 343 = .ok (.iadd, 1) := dk_96 (dk_at dksJ30_resize_14 14 rfl rfl)
theorem dJ30_resize_344 : decode cJ30_resize 344 = .ok (.aload 11, 2) := dk_25 11 (dk_at dksJ30_resize_14 15 rfl rfl)
theorem dJ30_resize_346 : decode cJ30_resize 346 = .ok (.aastore, 1) := dk_83 (dk_at dksJ30_resize_14 17 rfl rfl)
theorem dJ30_resize_347 : decode cJ30_resize 347 = .ok (.iinc 7 1, 3) := dk_132 7 1 (dk_at dksJ30_resize_14 18 rfl rfl)
theorem dJ30_resize_350 : decode cJ30_resize 350 = .ok (.goto (-199), 3) := dk_167 255 57 (dk_at dksJ30_resize_14 21 rfl rfl)
theorem dJ30_resize_353 : decode cJ30_resize 353 = .ok (.aload 6, 2) := dk_25 6 (dk_at dksJ30_resize_15 0 rfl rfl)
theorem dJ30_resize_355 : decode cJ30_resize 355 = .ok (.areturn, 1) := dk_176 (dk_at dksJ30_resize_15 2 rfl rfl)
abbrev cJ30_replacementNode : ByteArray := prog_68_method_47_code
def yJ30_replacementNode : MethodName := ⟨RJ30, "replacementNode", "(Ljava/util/HashMap$Node;Ljava/util/HashMap$Node;)Ljava/util/HashMap$Node;"⟩
def dkwJ30_replacementNode_0 : List UInt8 := [187, 0, 163, 89, 43, 180, 0, 168, 43, 180, 0, 170, 43, 180, 0, 162, 44, 183, 1, 119, 176]
abbrev dktJ30_replacementNode_0 : List UInt8 := dkwJ30_replacementNode_0 ++ []
theorem dksJ30_replacementNode_0 : cJ30_replacementNode.data.toList.drop 0 = dktJ30_replacementNode_0 := by decide +kernel
theorem dJ30_replacementNode_0 : decode cJ30_replacementNode 0 = .ok (.new 163, 3) := dk_187 0 163 (dk_at dksJ30_replacementNode_0 0 rfl rfl)
theorem dJ30_replacementNode_3 : decode cJ30_replacementNode 3 = .ok (.dup, 1) := dk_89 (dk_at dksJ30_replacementNode_0 3 rfl rfl)
theorem dJ30_replacementNode_4 : decode cJ30_replacementNode 4 = .ok (.aload_n 1, 1) := dk_43 (dk_at dksJ30_replacementNode_0 4 rfl rfl)
theorem dJ30_replacementNode_5 : decode cJ30_replacementNode 5 = .ok (.getfield 168, 3) := dk_180 0 168 (dk_at dksJ30_replacementNode_0 5 rfl rfl)
theorem dJ30_replacementNode_8 : decode cJ30_replacementNode 8 = .ok (.aload_n 1, 1) := dk_43 (dk_at dksJ30_replacementNode_0 8 rfl rfl)
theorem dJ30_replacementNode_9 : decode cJ30_replacementNode 9 = .ok (.getfield 170, 3) := dk_180 0 170 (dk_at dksJ30_replacementNode_0 9 rfl rfl)
theorem dJ30_replacementNode_12 : decode cJ30_replacementNode 12 = .ok (.aload_n 1, 1) := dk_43 (dk_at dksJ30_replacementNode_0 12 rfl rfl)
theorem dJ30_replacementNode_13 : decode cJ30_replacementNode 13 = .ok (.getfield 162, 3) := dk_180 0 162 (dk_at dksJ30_replacementNode_0 13 rfl rfl)
theorem dJ30_replacementNode_16 : decode cJ30_replacementNode 16 = .ok (.aload_n 2, 1) := dk_44 (dk_at dksJ30_replacementNode_0 16 rfl rfl)
theorem dJ30_replacementNode_17 : decode cJ30_replacementNode 17 = .ok (.invokespecial 375, 3) := dk_183 1 119 (dk_at dksJ30_replacementNode_0 17 rfl rfl)
theorem dJ30_replacementNode_20 : decode cJ30_replacementNode 20 = .ok (.areturn, 1) := dk_176 (dk_at dksJ30_replacementNode_0 20 rfl rfl)
abbrev cJ30_newNode : ByteArray := prog_68_method_46_code
def yJ30_newNode : MethodName := ⟨RJ30, "newNode", "(ILjava/lang/Object;Ljava/lang/Object;Ljava/util/HashMap$Node;)Ljava/util/HashMap$Node;"⟩
def dkwJ30_newNode_0 : List UInt8 := [187, 0, 163, 89, 27, 44, 45, 25, 4, 183, 1, 119, 176]
abbrev dktJ30_newNode_0 : List UInt8 := dkwJ30_newNode_0 ++ []
theorem dksJ30_newNode_0 : cJ30_newNode.data.toList.drop 0 = dktJ30_newNode_0 := by decide +kernel
theorem dJ30_newNode_0 : decode cJ30_newNode 0 = .ok (.new 163, 3) := dk_187 0 163 (dk_at dksJ30_newNode_0 0 rfl rfl)
theorem dJ30_newNode_3 : decode cJ30_newNode 3 = .ok (.dup, 1) := dk_89 (dk_at dksJ30_newNode_0 3 rfl rfl)
theorem dJ30_newNode_4 : decode cJ30_newNode 4 = .ok (.iload_n 1, 1) := dk_27 (dk_at dksJ30_newNode_0 4 rfl rfl)
theorem dJ30_newNode_5 : decode cJ30_newNode 5 = .ok (.aload_n 2, 1) := dk_44 (dk_at dksJ30_newNode_0 5 rfl rfl)
theorem dJ30_newNode_6 : decode cJ30_newNode 6 = .ok (.aload_n 3, 1) := dk_45 (dk_at dksJ30_newNode_0 6 rfl rfl)
theorem dJ30_newNode_7 : decode cJ30_newNode 7 = .ok (.aload 4, 2) := dk_25 4 (dk_at dksJ30_newNode_0 7 rfl rfl)
theorem dJ30_newNode_9 : decode cJ30_newNode 9 = .ok (.invokespecial 375, 3) := dk_183 1 119 (dk_at dksJ30_newNode_0 9 rfl rfl)
theorem dJ30_newNode_12 : decode cJ30_newNode 12 = .ok (.areturn, 1) := dk_176 (dk_at dksJ30_newNode_0 12 rfl rfl)
abbrev cJ30_newTreeNode : ByteArray := prog_68_method_48_code
def yJ30_newTreeNode : MethodName := ⟨RJ30, "newTreeNode", "(ILjava/lang/Object;Ljava/lang/Object;Ljava/util/HashMap$Node;)Ljava/util/HashMap$TreeNode;"⟩
def dkwJ30_newTreeNode_0 : List UInt8 := [187, 0, 180, 89, 27, 44, 45, 25, 4, 183, 1, 122, 176]
abbrev dktJ30_newTreeNode_0 : List UInt8 := dkwJ30_newTreeNode_0 ++ []
theorem dksJ30_newTreeNode_0 : cJ30_newTreeNode.data.toList.drop 0 = dktJ30_newTreeNode_0 := by decide +kernel
theorem dJ30_newTreeNode_0 : decode cJ30_newTreeNode 0 = .ok (.new 180, 3) := dk_187 0 180 (dk_at dksJ30_newTreeNode_0 0 rfl rfl)
theorem dJ30_newTreeNode_3 : decode cJ30_newTreeNode 3 = .ok (.dup, 1) := dk_89 (dk_at dksJ30_newTreeNode_0 3 rfl rfl)
theorem dJ30_newTreeNode_4 : decode cJ30_newTreeNode 4 = .ok (.iload_n 1, 1) := dk_27 (dk_at dksJ30_newTreeNode_0 4 rfl rfl)
theorem dJ30_newTreeNode_5 : decode cJ30_newTreeNode 5 = .ok (.aload_n 2, 1) := dk_44 (dk_at dksJ30_newTreeNode_0 5 rfl rfl)
theorem dJ30_newTreeNode_6 : decode cJ30_newTreeNode 6 = .ok (.aload_n 3, 1) := dk_45 (dk_at dksJ30_newTreeNode_0 6 rfl rfl)
theorem dJ30_newTreeNode_7 : decode cJ30_newTreeNode 7 = .ok (.aload 4, 2) := dk_25 4 (dk_at dksJ30_newTreeNode_0 7 rfl rfl)
theorem dJ30_newTreeNode_9 : decode cJ30_newTreeNode 9 = .ok (.invokespecial 378, 3) := dk_183 1 122 (dk_at dksJ30_newTreeNode_0 9 rfl rfl)
theorem dJ30_newTreeNode_12 : decode cJ30_newTreeNode 12 = .ok (.areturn, 1) := dk_176 (dk_at dksJ30_newTreeNode_0 12 rfl rfl)
abbrev cJ30_treeifyBin : ByteArray := prog_68_method_18_code
def yJ30_treeifyBin : MethodName := ⟨RJ30, "treeifyBin", "([Ljava/util/HashMap$Node;I)V"⟩
def dkwJ30_treeifyBin_4 : List UInt8 := [21, 4, 25, 6, 91, 83, 198, 0, 9, 25, 6, 43, 182, 0, 224, 177]
abbrev dktJ30_treeifyBin_4 : List UInt8 := dkwJ30_treeifyBin_4 ++ []
def dkwJ30_treeifyBin_3 : List UInt8 := [25, 7, 25, 8, 181, 0, 223, 25, 8, 58, 7, 25, 5, 180, 0, 177, 89, 58, 5, 199, 255, 209, 43]
abbrev dktJ30_treeifyBin_3 : List UInt8 := dkwJ30_treeifyBin_3 ++ dktJ30_treeifyBin_4
def dkwJ30_treeifyBin_2 : List UInt8 := [182, 0, 215, 58, 8, 25, 7, 199, 0, 10, 25, 8, 58, 6, 167, 0, 17, 25, 8, 25, 7, 181, 0, 219]
abbrev dktJ30_treeifyBin_2 : List UInt8 := dkwJ30_treeifyBin_2 ++ dktJ30_treeifyBin_3
def dkwJ30_treeifyBin_1 : List UInt8 := [100, 28, 126, 89, 54, 4, 50, 89, 58, 5, 198, 0, 75, 1, 58, 6, 1, 58, 7, 42, 25, 5, 1]
abbrev dktJ30_treeifyBin_1 : List UInt8 := dkwJ30_treeifyBin_1 ++ dktJ30_treeifyBin_2
def dkwJ30_treeifyBin_0 : List UInt8 := [43, 198, 0, 12, 43, 190, 89, 62, 16, 64, 162, 0, 11, 42, 182, 0, 117, 87, 167, 0, 91, 43, 29, 4]
abbrev dktJ30_treeifyBin_0 : List UInt8 := dkwJ30_treeifyBin_0 ++ dktJ30_treeifyBin_1
theorem dksJ30_treeifyBin_0 : cJ30_treeifyBin.data.toList.drop 0 = dktJ30_treeifyBin_0 := by decide +kernel
theorem dksJ30_treeifyBin_1 : cJ30_treeifyBin.data.toList.drop 24 = dktJ30_treeifyBin_1 := dk_seg dksJ30_treeifyBin_0 24 rfl rfl
theorem dksJ30_treeifyBin_2 : cJ30_treeifyBin.data.toList.drop 47 = dktJ30_treeifyBin_2 := dk_seg dksJ30_treeifyBin_1 23 rfl rfl
theorem dksJ30_treeifyBin_3 : cJ30_treeifyBin.data.toList.drop 71 = dktJ30_treeifyBin_3 := dk_seg dksJ30_treeifyBin_2 24 rfl rfl
theorem dksJ30_treeifyBin_4 : cJ30_treeifyBin.data.toList.drop 94 = dktJ30_treeifyBin_4 := dk_seg dksJ30_treeifyBin_3 23 rfl rfl
theorem dJ30_treeifyBin_0 : decode cJ30_treeifyBin 0 = .ok (.aload_n 1, 1) := dk_43 (dk_at dksJ30_treeifyBin_0 0 rfl rfl)
theorem dJ30_treeifyBin_1 : decode cJ30_treeifyBin 1 = .ok (.ifnull 12, 3) := dk_198 0 12 (dk_at dksJ30_treeifyBin_0 1 rfl rfl)
theorem dJ30_treeifyBin_4 : decode cJ30_treeifyBin 4 = .ok (.aload_n 1, 1) := dk_43 (dk_at dksJ30_treeifyBin_0 4 rfl rfl)
theorem dJ30_treeifyBin_5 : decode cJ30_treeifyBin 5 = .ok (.arraylength, 1) := dk_190 (dk_at dksJ30_treeifyBin_0 5 rfl rfl)
theorem dJ30_treeifyBin_6 : decode cJ30_treeifyBin 6 = .ok (.dup, 1) := dk_89 (dk_at dksJ30_treeifyBin_0 6 rfl rfl)
theorem dJ30_treeifyBin_7 : decode cJ30_treeifyBin 7 = .ok (.istore_n 3, 1) := dk_62 (dk_at dksJ30_treeifyBin_0 7 rfl rfl)
theorem dJ30_treeifyBin_8 : decode cJ30_treeifyBin 8 = .ok (.bipush 64, 2) := dk_16 64 (dk_at dksJ30_treeifyBin_0 8 rfl rfl)
theorem dJ30_treeifyBin_10 : decode cJ30_treeifyBin 10 = .ok (.if_icmp .ge 11, 3) := dk_162 0 11 (dk_at dksJ30_treeifyBin_0 10 rfl rfl)
theorem dJ30_treeifyBin_13 : decode cJ30_treeifyBin 13 = .ok (.aload_n 0, 1) := dk_42 (dk_at dksJ30_treeifyBin_0 13 rfl rfl)
theorem dJ30_treeifyBin_14 : decode cJ30_treeifyBin 14 = .ok (.invokevirtual 117, 3) := dk_182 0 117 (dk_at dksJ30_treeifyBin_0 14 rfl rfl)
theorem dJ30_treeifyBin_17 : decode cJ30_treeifyBin 17 = .ok (.pop, 1) := dk_87 (dk_at dksJ30_treeifyBin_0 17 rfl rfl)
theorem dJ30_treeifyBin_18 : decode cJ30_treeifyBin 18 = .ok (.goto 91, 3) := dk_167 0 91 (dk_at dksJ30_treeifyBin_0 18 rfl rfl)
theorem dJ30_treeifyBin_21 : decode cJ30_treeifyBin 21 = .ok (.aload_n 1, 1) := dk_43 (dk_at dksJ30_treeifyBin_0 21 rfl rfl)
theorem dJ30_treeifyBin_22 : decode cJ30_treeifyBin 22 = .ok (.iload_n 3, 1) := dk_29 (dk_at dksJ30_treeifyBin_0 22 rfl rfl)
theorem dJ30_treeifyBin_23 : decode cJ30_treeifyBin 23 = .ok (.iconst 1, 1) := dk_4 (dk_at dksJ30_treeifyBin_0 23 rfl rfl)
theorem dJ30_treeifyBin_24 : decode cJ30_treeifyBin 24 = .ok (.isub, 1) := dk_100 (dk_at dksJ30_treeifyBin_1 0 rfl rfl)
theorem dJ30_treeifyBin_25 : decode cJ30_treeifyBin 25 = .ok (.iload_n 2, 1) := dk_28 (dk_at dksJ30_treeifyBin_1 1 rfl rfl)
theorem dJ30_treeifyBin_26 : decode cJ30_treeifyBin 26 = .ok (.iand, 1) := dk_126 (dk_at dksJ30_treeifyBin_1 2 rfl rfl)
theorem dJ30_treeifyBin_27 : decode cJ30_treeifyBin 27 = .ok (.dup, 1) := dk_89 (dk_at dksJ30_treeifyBin_1 3 rfl rfl)
theorem dJ30_treeifyBin_28 : decode cJ30_treeifyBin 28 = .ok (.istore 4, 2) := dk_54 4 (dk_at dksJ30_treeifyBin_1 4 rfl rfl)
theorem dJ30_treeifyBin_30 : decode cJ30_treeifyBin 30 = .ok (.aaload, 1) := dk_50 (dk_at dksJ30_treeifyBin_1 6 rfl rfl)
theorem dJ30_treeifyBin_31 : decode cJ30_treeifyBin 31 = .ok (.dup, 1) := dk_89 (dk_at dksJ30_treeifyBin_1 7 rfl rfl)
theorem dJ30_treeifyBin_32 : decode cJ30_treeifyBin 32 = .ok (.astore 5, 2) := dk_58 5 (dk_at dksJ30_treeifyBin_1 8 rfl rfl)
theorem dJ30_treeifyBin_34 : decode cJ30_treeifyBin 34 = .ok (.ifnull 75, 3) := dk_198 0 75 (dk_at dksJ30_treeifyBin_1 10 rfl rfl)
theorem dJ30_treeifyBin_37 : decode cJ30_treeifyBin 37 = .ok (.aconst_null, 1) := dk_1 (dk_at dksJ30_treeifyBin_1 13 rfl rfl)
theorem dJ30_treeifyBin_38 : decode cJ30_treeifyBin 38 = .ok (.astore 6, 2) := dk_58 6 (dk_at dksJ30_treeifyBin_1 14 rfl rfl)
theorem dJ30_treeifyBin_40 : decode cJ30_treeifyBin 40 = .ok (.aconst_null, 1) := dk_1 (dk_at dksJ30_treeifyBin_1 16 rfl rfl)
theorem dJ30_treeifyBin_41 : decode cJ30_treeifyBin 41 = .ok (.astore 7, 2) := dk_58 7 (dk_at dksJ30_treeifyBin_1 17 rfl rfl)
theorem dJ30_treeifyBin_43 : decode cJ30_treeifyBin 43 = .ok (.aload_n 0, 1) := dk_42 (dk_at dksJ30_treeifyBin_1 19 rfl rfl)
theorem dJ30_treeifyBin_44 : decode cJ30_treeifyBin 44 = .ok (.aload 5, 2) := dk_25 5 (dk_at dksJ30_treeifyBin_1 20 rfl rfl)
theorem dJ30_treeifyBin_46 : decode cJ30_treeifyBin 46 = .ok (.aconst_null, 1) := dk_1 (dk_at dksJ30_treeifyBin_1 22 rfl rfl)
theorem dJ30_treeifyBin_47 : decode cJ30_treeifyBin 47 = .ok (.invokevirtual 215, 3) := dk_182 0 215 (dk_at dksJ30_treeifyBin_2 0 rfl rfl)
theorem dJ30_treeifyBin_50 : decode cJ30_treeifyBin 50 = .ok (.astore 8, 2) := dk_58 8 (dk_at dksJ30_treeifyBin_2 3 rfl rfl)
theorem dJ30_treeifyBin_52 : decode cJ30_treeifyBin 52 = .ok (.aload 7, 2) := dk_25 7 (dk_at dksJ30_treeifyBin_2 5 rfl rfl)
theorem dJ30_treeifyBin_54 : decode cJ30_treeifyBin 54 = .ok (.ifnonnull 10, 3) := dk_199 0 10 (dk_at dksJ30_treeifyBin_2 7 rfl rfl)
theorem dJ30_treeifyBin_57 : decode cJ30_treeifyBin 57 = .ok (.aload 8, 2) := dk_25 8 (dk_at dksJ30_treeifyBin_2 10 rfl rfl)
theorem dJ30_treeifyBin_59 : decode cJ30_treeifyBin 59 = .ok (.astore 6, 2) := dk_58 6 (dk_at dksJ30_treeifyBin_2 12 rfl rfl)
theorem dJ30_treeifyBin_61 : decode cJ30_treeifyBin 61 = .ok (.goto 17, 3) := dk_167 0 17 (dk_at dksJ30_treeifyBin_2 14 rfl rfl)
theorem dJ30_treeifyBin_64 : decode cJ30_treeifyBin 64 = .ok (.aload 8, 2) := dk_25 8 (dk_at dksJ30_treeifyBin_2 17 rfl rfl)
theorem dJ30_treeifyBin_66 : decode cJ30_treeifyBin 66 = .ok (.aload 7, 2) := dk_25 7 (dk_at dksJ30_treeifyBin_2 19 rfl rfl)
theorem dJ30_treeifyBin_68 : decode cJ30_treeifyBin 68 = .ok (.putfield 219, 3) := dk_181 0 219 (dk_at dksJ30_treeifyBin_2 21 rfl rfl)
theorem dJ30_treeifyBin_71 : decode cJ30_treeifyBin 71 = .ok (.aload 7, 2) := dk_25 7 (dk_at dksJ30_treeifyBin_3 0 rfl rfl)
theorem dJ30_treeifyBin_73 : decode cJ30_treeifyBin 73 = .ok (.aload 8, 2) := dk_25 8 (dk_at dksJ30_treeifyBin_3 2 rfl rfl)
theorem dJ30_treeifyBin_75 : decode cJ30_treeifyBin 75 = .ok (.putfield 223, 3) := dk_181 0 223 (dk_at dksJ30_treeifyBin_3 4 rfl rfl)
theorem dJ30_treeifyBin_78 : decode cJ30_treeifyBin 78 = .ok (.aload 8, 2) := dk_25 8 (dk_at dksJ30_treeifyBin_3 7 rfl rfl)
theorem dJ30_treeifyBin_80 : decode cJ30_treeifyBin 80 = .ok (.astore 7, 2) := dk_58 7 (dk_at dksJ30_treeifyBin_3 9 rfl rfl)
theorem dJ30_treeifyBin_82 : decode cJ30_treeifyBin 82 = .ok (.aload 5, 2) := dk_25 5 (dk_at dksJ30_treeifyBin_3 11 rfl rfl)
theorem dJ30_treeifyBin_84 : decode cJ30_treeifyBin 84 = .ok (.getfield 177, 3) := dk_180 0 177 (dk_at dksJ30_treeifyBin_3 13 rfl rfl)
theorem dJ30_treeifyBin_87 : decode cJ30_treeifyBin 87 = .ok (.dup, 1) := dk_89 (dk_at dksJ30_treeifyBin_3 16 rfl rfl)
theorem dJ30_treeifyBin_88 : decode cJ30_treeifyBin 88 = .ok (.astore 5, 2) := dk_58 5 (dk_at dksJ30_treeifyBin_3 17 rfl rfl)
theorem dJ30_treeifyBin_90 : decode cJ30_treeifyBin 90 = .ok (.ifnonnull (-47), 3) := dk_199 255 209 (dk_at dksJ30_treeifyBin_3 19 rfl rfl)
theorem dJ30_treeifyBin_93 : decode cJ30_treeifyBin 93 = .ok (.aload_n 1, 1) := dk_43 (dk_at dksJ30_treeifyBin_3 22 rfl rfl)
theorem dJ30_treeifyBin_94 : decode cJ30_treeifyBin 94 = .ok (.iload 4, 2) := dk_21 4 (dk_at dksJ30_treeifyBin_4 0 rfl rfl)
theorem dJ30_treeifyBin_96 : decode cJ30_treeifyBin 96 = .ok (.aload 6, 2) := dk_25 6 (dk_at dksJ30_treeifyBin_4 2 rfl rfl)
theorem dJ30_treeifyBin_98 : decode cJ30_treeifyBin 98 = .ok (.dup_x2, 1) := dk_91 (dk_at dksJ30_treeifyBin_4 4 rfl rfl)
theorem dJ30_treeifyBin_99 : decode cJ30_treeifyBin 99 = .ok (.aastore, 1) := dk_83 (dk_at dksJ30_treeifyBin_4 5 rfl rfl)
theorem dJ30_treeifyBin_100 : decode cJ30_treeifyBin 100 = .ok (.ifnull 9, 3) := dk_198 0 9 (dk_at dksJ30_treeifyBin_4 6 rfl rfl)
theorem dJ30_treeifyBin_103 : decode cJ30_treeifyBin 103 = .ok (.aload 6, 2) := dk_25 6 (dk_at dksJ30_treeifyBin_4 9 rfl rfl)
theorem dJ30_treeifyBin_105 : decode cJ30_treeifyBin 105 = .ok (.aload_n 1, 1) := dk_43 (dk_at dksJ30_treeifyBin_4 11 rfl rfl)
theorem dJ30_treeifyBin_106 : decode cJ30_treeifyBin 106 = .ok (.invokevirtual 224, 3) := dk_182 0 224 (dk_at dksJ30_treeifyBin_4 12 rfl rfl)
theorem dJ30_treeifyBin_109 : decode cJ30_treeifyBin 109 = .ok (.return_, 1) := dk_177 (dk_at dksJ30_treeifyBin_4 15 rfl rfl)
abbrev cJ30_replacementTreeNode : ByteArray := prog_68_method_49_code
def yJ30_replacementTreeNode : MethodName := ⟨RJ30, "replacementTreeNode", "(Ljava/util/HashMap$Node;Ljava/util/HashMap$Node;)Ljava/util/HashMap$TreeNode;"⟩
def dkwJ30_replacementTreeNode_0 : List UInt8 := [187, 0, 180, 89, 43, 180, 0, 168, 43, 180, 0, 170, 43, 180, 0, 162, 44, 183, 1, 122, 176]
abbrev dktJ30_replacementTreeNode_0 : List UInt8 := dkwJ30_replacementTreeNode_0 ++ []
theorem dksJ30_replacementTreeNode_0 : cJ30_replacementTreeNode.data.toList.drop 0 = dktJ30_replacementTreeNode_0 := by decide +kernel
theorem dJ30_replacementTreeNode_0 : decode cJ30_replacementTreeNode 0 = .ok (.new 180, 3) := dk_187 0 180 (dk_at dksJ30_replacementTreeNode_0 0 rfl rfl)
theorem dJ30_replacementTreeNode_3 : decode cJ30_replacementTreeNode 3 = .ok (.dup, 1) := dk_89 (dk_at dksJ30_replacementTreeNode_0 3 rfl rfl)
theorem dJ30_replacementTreeNode_4 : decode cJ30_replacementTreeNode 4 = .ok (.aload_n 1, 1) := dk_43 (dk_at dksJ30_replacementTreeNode_0 4 rfl rfl)
theorem dJ30_replacementTreeNode_5 : decode cJ30_replacementTreeNode 5 = .ok (.getfield 168, 3) := dk_180 0 168 (dk_at dksJ30_replacementTreeNode_0 5 rfl rfl)
theorem dJ30_replacementTreeNode_8 : decode cJ30_replacementTreeNode 8 = .ok (.aload_n 1, 1) := dk_43 (dk_at dksJ30_replacementTreeNode_0 8 rfl rfl)
theorem dJ30_replacementTreeNode_9 : decode cJ30_replacementTreeNode 9 = .ok (.getfield 170, 3) := dk_180 0 170 (dk_at dksJ30_replacementTreeNode_0 9 rfl rfl)
theorem dJ30_replacementTreeNode_12 : decode cJ30_replacementTreeNode 12 = .ok (.aload_n 1, 1) := dk_43 (dk_at dksJ30_replacementTreeNode_0 12 rfl rfl)
theorem dJ30_replacementTreeNode_13 : decode cJ30_replacementTreeNode 13 = .ok (.getfield 162, 3) := dk_180 0 162 (dk_at dksJ30_replacementTreeNode_0 13 rfl rfl)
theorem dJ30_replacementTreeNode_16 : decode cJ30_replacementTreeNode 16 = .ok (.aload_n 2, 1) := dk_44 (dk_at dksJ30_replacementTreeNode_0 16 rfl rfl)
theorem dJ30_replacementTreeNode_17 : decode cJ30_replacementTreeNode 17 = .ok (.invokespecial 378, 3) := dk_183 1 122 (dk_at dksJ30_replacementTreeNode_0 17 rfl rfl)
theorem dJ30_replacementTreeNode_20 : decode cJ30_replacementTreeNode 20 = .ok (.areturn, 1) := dk_176 (dk_at dksJ30_replacementTreeNode_0 20 rfl rfl)
abbrev cJ30_afterNodeAccess : ByteArray := prog_68_method_51_code
def yJ30_afterNodeAccess : MethodName := ⟨RJ30, "afterNodeAccess", "(Ljava/util/HashMap$Node;)V"⟩
theorem dJ30_afterNodeAccess_0 : decode cJ30_afterNodeAccess 0 = .ok (.return_, 1) := by decide +kernel
abbrev cJ30_afterNodeInsertion : ByteArray := prog_68_method_52_code
def yJ30_afterNodeInsertion : MethodName := ⟨RJ30, "afterNodeInsertion", "(Z)V"⟩
theorem dJ30_afterNodeInsertion_0 : decode cJ30_afterNodeInsertion 0 = .ok (.return_, 1) := by decide +kernel
abbrev cJ30_size : ByteArray := prog_68_method_10_code
def yJ30_size : MethodName := ⟨RJ30, "size", "()I"⟩
theorem dJ30_size_0 : decode cJ30_size 0 = .ok (.aload_n 0, 1) := by decide +kernel
theorem dJ30_size_1 : decode cJ30_size 1 = .ok (.getfield 156, 3) := by decide +kernel
theorem dJ30_size_4 : decode cJ30_size 4 = .ok (.ireturn, 1) := by decide +kernel
theorem q121 : (Jvm.Cond.initialized "java/util/HashMap") ∈ lw_all := lw_g (lw_at lw_m1 49 rfl) rfl
theorem q524 : (Jvm.Cond.selects "java/util/HashMap" ({ cls := "java/lang/Object", name := "getClass", desc := "()Ljava/lang/Class;" } : Jvm.MethodName) ({ cls := "java/lang/Object", name := "getClass", desc := "()Ljava/lang/Class;" } : Jvm.MethodName)) ∈ lw_all := lw_g (lw_at lw_m2 212 rfl) rfl
theorem q1766 : (Jvm.Cond.instantiable "java/util/HashMap" (8 : Nat)) ∈ lw_all := lw_g (lw_at lw_m8 14 rfl) rfl
theorem q1768 : (Jvm.Cond.instanceMethod ({ cls := "java/util/HashMap", name := "<init>", desc := "()V" } : Jvm.MethodName)) ∈ lw_all := lw_g (lw_at lw_m8 16 rfl) rfl
theorem q1769 : (Jvm.Cond.code ({ cls := "java/util/HashMap", name := "<init>", desc := "()V" } : Jvm.MethodName) prog_68_method_7_code (1 : Nat) (Option.none : Option Jvm.ClassFile.FieldType)) ∈ lw_all := lw_g (lw_at lw_m8 17 rfl) rfl
theorem q1770 : (Jvm.Cond.methodLink "java/util/HashMap" (43 : Nat) ({ cls := "java/util/AbstractMap", name := "<init>", desc := "()V" } : Jvm.MethodName)) ∈ lw_all := lw_g (lw_at lw_m8 18 rfl) rfl
theorem q1774 : (Jvm.Cond.constantFloat "java/util/HashMap" (92 : Nat) (1061158912 : UInt32)) ∈ lw_all := lw_g (lw_at lw_m8 22 rfl) rfl
theorem q1775 : (Jvm.Cond.fieldLink "java/util/HashMap" (105 : Nat) "java/util/HashMap" "table" "[Ljava/util/HashMap$Node;") ∈ lw_all := lw_g (lw_at lw_m8 23 rfl) rfl
theorem q1776 : (Jvm.Cond.fieldLink "java/util/HashMap" (156 : Nat) "java/util/HashMap" "size" "I") ∈ lw_all := lw_g (lw_at lw_m8 24 rfl) rfl
theorem q1777 : (Jvm.Cond.fieldLink "java/util/HashMap" (202 : Nat) "java/util/HashMap" "modCount" "I") ∈ lw_all := lw_g (lw_at lw_m8 25 rfl) rfl
theorem q1778 : (Jvm.Cond.fieldLink "java/util/HashMap" (88 : Nat) "java/util/HashMap" "threshold" "I") ∈ lw_all := lw_g (lw_at lw_m8 26 rfl) rfl
theorem q1779 : (Jvm.Cond.fieldLink "java/util/HashMap" (81 : Nat) "java/util/HashMap" "loadFactor" "F") ∈ lw_all := lw_g (lw_at lw_m8 27 rfl) rfl
theorem q1780 : (Jvm.Cond.lays "java/util/HashMap" "java/util/HashMap" "table" "[Ljava/util/HashMap$Node;") ∈ lw_all := lw_g (lw_at lw_m8 28 rfl) rfl
theorem q1781 : (Jvm.Cond.soleField "java/util/HashMap" "table") ∈ lw_all := lw_g (lw_at lw_m8 29 rfl) rfl
theorem q1782 : (Jvm.Cond.lays "java/util/HashMap" "java/util/HashMap" "entrySet" "Ljava/util/Set;") ∈ lw_all := lw_g (lw_at lw_m8 30 rfl) rfl
theorem q1783 : (Jvm.Cond.soleField "java/util/HashMap" "entrySet") ∈ lw_all := lw_g (lw_at lw_m8 31 rfl) rfl
theorem q1784 : (Jvm.Cond.lays "java/util/HashMap" "java/util/HashMap" "size" "I") ∈ lw_all := lw_g (lw_at lw_m8 32 rfl) rfl
theorem q1785 : (Jvm.Cond.soleField "java/util/HashMap" "size") ∈ lw_all := lw_g (lw_at lw_m8 33 rfl) rfl
theorem q1786 : (Jvm.Cond.lays "java/util/HashMap" "java/util/HashMap" "modCount" "I") ∈ lw_all := lw_g (lw_at lw_m8 34 rfl) rfl
theorem q1787 : (Jvm.Cond.soleField "java/util/HashMap" "modCount") ∈ lw_all := lw_g (lw_at lw_m8 35 rfl) rfl
theorem q1788 : (Jvm.Cond.lays "java/util/HashMap" "java/util/HashMap" "threshold" "I") ∈ lw_all := lw_g (lw_at lw_m8 36 rfl) rfl
theorem q1789 : (Jvm.Cond.soleField "java/util/HashMap" "threshold") ∈ lw_all := lw_g (lw_at lw_m8 37 rfl) rfl
theorem q1790 : (Jvm.Cond.laysFinal "java/util/HashMap" "java/util/HashMap" "loadFactor" "F") ∈ lw_all := lw_g (lw_at lw_m8 38 rfl) rfl
theorem q1791 : (Jvm.Cond.soleField "java/util/HashMap" "loadFactor") ∈ lw_all := lw_g (lw_at lw_m8 39 rfl) rfl
theorem q1792 : (Jvm.Cond.lays "java/util/HashMap" "java/util/AbstractMap" "keySet" "Ljava/util/Set;") ∈ lw_all := lw_g (lw_at lw_m8 40 rfl) rfl
theorem q1794 : (Jvm.Cond.lays "java/util/HashMap" "java/util/AbstractMap" "values" "Ljava/util/Collection;") ∈ lw_all := lw_g (lw_at lw_m8 42 rfl) rfl
theorem q1796 : (Jvm.Cond.superclass "java/util/HashMap" "java/util/AbstractMap") ∈ lw_all := lw_g (lw_at lw_m8 44 rfl) rfl
theorem q1803 : (Jvm.Cond.castable "java/util/HashMap" "java/util/Map") ∈ lw_tbl := lw_at lw_m8 51 rfl
theorem q1804 : (Jvm.Cond.selects "java/util/HashMap" ({ cls := "java/util/Map", name := "get", desc := "(Ljava/lang/Object;)Ljava/lang/Object;" } : Jvm.MethodName) ({ cls := "java/util/HashMap", name := "get", desc := "(Ljava/lang/Object;)Ljava/lang/Object;" } : Jvm.MethodName)) ∈ lw_all := lw_g (lw_at lw_m8 52 rfl) rfl
theorem q1805 : (Jvm.Cond.unhidden "java/util/HashMap" "get" "(Ljava/lang/Object;)Ljava/lang/Object;") ∈ lw_tbl := lw_at lw_m8 53 rfl
theorem q1806 : (Jvm.Cond.instanceMethod ({ cls := "java/util/HashMap", name := "get", desc := "(Ljava/lang/Object;)Ljava/lang/Object;" } : Jvm.MethodName)) ∈ lw_all := lw_g (lw_at lw_m8 54 rfl) rfl
theorem q1807 : (Jvm.Cond.publicMethod ({ cls := "java/util/HashMap", name := "get", desc := "(Ljava/lang/Object;)Ljava/lang/Object;" } : Jvm.MethodName)) ∈ lw_tbl := lw_at lw_m8 55 rfl
theorem q1808 : (Jvm.Cond.code ({ cls := "java/util/HashMap", name := "get", desc := "(Ljava/lang/Object;)Ljava/lang/Object;" } : Jvm.MethodName) prog_68_method_12_code (3 : Nat) (Option.some (Jvm.ClassFile.FieldType.object "java/lang/Object"))) ∈ lw_all := lw_g (lw_at lw_m8 56 rfl) rfl
theorem q1809 : (Jvm.Cond.methodLink "java/util/HashMap" (158 : Nat) ({ cls := "java/util/HashMap", name := "getNode", desc := "(Ljava/lang/Object;)Ljava/util/HashMap$Node;" } : Jvm.MethodName)) ∈ lw_all := lw_g (lw_at lw_m8 57 rfl) rfl
theorem q1810 : (Jvm.Cond.instanceMethod ({ cls := "java/util/HashMap", name := "getNode", desc := "(Ljava/lang/Object;)Ljava/util/HashMap$Node;" } : Jvm.MethodName)) ∈ lw_all := lw_g (lw_at lw_m8 58 rfl) rfl
theorem q1811 : (Jvm.Cond.selects "java/util/HashMap" ({ cls := "java/util/HashMap", name := "getNode", desc := "(Ljava/lang/Object;)Ljava/util/HashMap$Node;" } : Jvm.MethodName) ({ cls := "java/util/HashMap", name := "getNode", desc := "(Ljava/lang/Object;)Ljava/util/HashMap$Node;" } : Jvm.MethodName)) ∈ lw_all := lw_g (lw_at lw_m8 59 rfl) rfl
theorem q1812 : (Jvm.Cond.code ({ cls := "java/util/HashMap", name := "getNode", desc := "(Ljava/lang/Object;)Ljava/util/HashMap$Node;" } : Jvm.MethodName) prog_68_method_13_code (8 : Nat) (Option.some (Jvm.ClassFile.FieldType.object "java/util/HashMap$Node"))) ∈ lw_all := lw_g (lw_at lw_m8 60 rfl) rfl
theorem q1813 : (Jvm.Cond.methodLink "java/util/HashMap" (149 : Nat) ({ cls := "java/util/HashMap", name := "hash", desc := "(Ljava/lang/Object;)I" } : Jvm.MethodName)) ∈ lw_all := lw_g (lw_at lw_m8 61 rfl) rfl
theorem q1814 : (Jvm.Cond.static ({ cls := "java/util/HashMap", name := "hash", desc := "(Ljava/lang/Object;)I" } : Jvm.MethodName)) ∈ lw_all := lw_g (lw_at lw_m8 62 rfl) rfl
theorem q1815 : (Jvm.Cond.code ({ cls := "java/util/HashMap", name := "hash", desc := "(Ljava/lang/Object;)I" } : Jvm.MethodName) prog_68_method_1_code (2 : Nat) (Option.some Jvm.ClassFile.FieldType.int)) ∈ lw_all := lw_g (lw_at lw_m8 63 rfl) rfl
theorem q1817 : (Jvm.Cond.methodLink "java/util/HashMap" (1 : Nat) ({ cls := "java/lang/Object", name := "hashCode", desc := "()I" } : Jvm.MethodName)) ∈ lw_all := lw_g (lw_at lw_m8 65 rfl) rfl
theorem q1918 : (Jvm.Cond.methodLink "java/util/HashMap" (173 : Nat) ({ cls := "java/lang/Object", name := "equals", desc := "(Ljava/lang/Object;)Z" } : Jvm.MethodName)) ∈ lw_all := lw_g (lw_at lw_m8 166 rfl) rfl
theorem q1962 : (Jvm.Cond.classLink "java/util/HashMap" (180 : Nat) "java/util/HashMap$TreeNode") ∈ lw_all := lw_g (lw_at lw_m8 210 rfl) rfl
theorem q1963 : (Jvm.Cond.methodLink "java/util/HashMap" (182 : Nat) ({ cls := "java/util/HashMap$TreeNode", name := "getTreeNode", desc := "(ILjava/lang/Object;)Ljava/util/HashMap$TreeNode;" } : Jvm.MethodName)) ∈ lw_all := lw_g (lw_at lw_m8 211 rfl) rfl
theorem q1977 : (Jvm.Cond.static ({ cls := "java/util/HashMap", name := "comparableClassFor", desc := "(Ljava/lang/Object;)Ljava/lang/Class;" } : Jvm.MethodName)) ∈ lw_all := lw_g (lw_at lw_m8 225 rfl) rfl
theorem q1978 : (Jvm.Cond.code ({ cls := "java/util/HashMap", name := "comparableClassFor", desc := "(Ljava/lang/Object;)Ljava/lang/Class;" } : Jvm.MethodName) prog_68_method_2_code (9 : Nat) (Option.some (Jvm.ClassFile.FieldType.object "java/lang/Class"))) ∈ lw_all := lw_g (lw_at lw_m8 226 rfl) rfl
theorem q1979 : (Jvm.Cond.classLink "java/util/HashMap" (7 : Nat) "java/lang/Comparable") ∈ lw_all := lw_g (lw_at lw_m8 227 rfl) rfl
theorem q1980 : (Jvm.Cond.methodLink "java/util/HashMap" (9 : Nat) ({ cls := "java/lang/Object", name := "getClass", desc := "()Ljava/lang/Class;" } : Jvm.MethodName)) ∈ lw_all := lw_g (lw_at lw_m8 228 rfl) rfl
theorem q1981 : (Jvm.Cond.classLink "java/util/HashMap" (13 : Nat) "java/lang/String") ∈ lw_all := lw_g (lw_at lw_m8 229 rfl) rfl
theorem q1983 : (Jvm.Cond.static ({ cls := "java/util/HashMap", name := "compareComparables", desc := "(Ljava/lang/Class;Ljava/lang/Object;Ljava/lang/Object;)I" } : Jvm.MethodName)) ∈ lw_all := lw_g (lw_at lw_m8 231 rfl) rfl
theorem q1984 : (Jvm.Cond.code ({ cls := "java/util/HashMap", name := "compareComparables", desc := "(Ljava/lang/Class;Ljava/lang/Object;Ljava/lang/Object;)I" } : Jvm.MethodName) prog_68_method_3_code (3 : Nat) (Option.some Jvm.ClassFile.FieldType.int)) ∈ lw_all := lw_g (lw_at lw_m8 232 rfl) rfl
theorem q1985 : (Jvm.Cond.interfaceEntry "java/util/HashMap" (30 : Nat)) ∈ lw_tbl := lw_at lw_m8 233 rfl
theorem q1986 : (Jvm.Cond.methodLink "java/util/HashMap" (30 : Nat) ({ cls := "java/lang/Comparable", name := "compareTo", desc := "(Ljava/lang/Object;)I" } : Jvm.MethodName)) ∈ lw_all := lw_g (lw_at lw_m8 234 rfl) rfl
theorem q2243 : (Jvm.Cond.selects "java/util/HashMap" ({ cls := "java/util/Map", name := "put", desc := "(Ljava/lang/Object;Ljava/lang/Object;)Ljava/lang/Object;" } : Jvm.MethodName) ({ cls := "java/util/HashMap", name := "put", desc := "(Ljava/lang/Object;Ljava/lang/Object;)Ljava/lang/Object;" } : Jvm.MethodName)) ∈ lw_all := lw_g (lw_at lw_m10 11 rfl) rfl
theorem q2244 : (Jvm.Cond.unhidden "java/util/HashMap" "put" "(Ljava/lang/Object;Ljava/lang/Object;)Ljava/lang/Object;") ∈ lw_tbl := lw_at lw_m10 12 rfl
theorem q2245 : (Jvm.Cond.instanceMethod ({ cls := "java/util/HashMap", name := "put", desc := "(Ljava/lang/Object;Ljava/lang/Object;)Ljava/lang/Object;" } : Jvm.MethodName)) ∈ lw_all := lw_g (lw_at lw_m10 13 rfl) rfl
theorem q2246 : (Jvm.Cond.publicMethod ({ cls := "java/util/HashMap", name := "put", desc := "(Ljava/lang/Object;Ljava/lang/Object;)Ljava/lang/Object;" } : Jvm.MethodName)) ∈ lw_tbl := lw_at lw_m10 14 rfl
theorem q2247 : (Jvm.Cond.code ({ cls := "java/util/HashMap", name := "put", desc := "(Ljava/lang/Object;Ljava/lang/Object;)Ljava/lang/Object;" } : Jvm.MethodName) prog_68_method_15_code (3 : Nat) (Option.some (Jvm.ClassFile.FieldType.object "java/lang/Object"))) ∈ lw_all := lw_g (lw_at lw_m10 15 rfl) rfl
theorem q2248 : (Jvm.Cond.methodLink "java/util/HashMap" (152 : Nat) ({ cls := "java/util/HashMap", name := "putVal", desc := "(ILjava/lang/Object;Ljava/lang/Object;ZZ)Ljava/lang/Object;" } : Jvm.MethodName)) ∈ lw_all := lw_g (lw_at lw_m10 16 rfl) rfl
theorem q2249 : (Jvm.Cond.instanceMethod ({ cls := "java/util/HashMap", name := "putVal", desc := "(ILjava/lang/Object;Ljava/lang/Object;ZZ)Ljava/lang/Object;" } : Jvm.MethodName)) ∈ lw_all := lw_g (lw_at lw_m10 17 rfl) rfl
theorem q2250 : (Jvm.Cond.selects "java/util/HashMap" ({ cls := "java/util/HashMap", name := "putVal", desc := "(ILjava/lang/Object;Ljava/lang/Object;ZZ)Ljava/lang/Object;" } : Jvm.MethodName) ({ cls := "java/util/HashMap", name := "putVal", desc := "(ILjava/lang/Object;Ljava/lang/Object;ZZ)Ljava/lang/Object;" } : Jvm.MethodName)) ∈ lw_all := lw_g (lw_at lw_m10 18 rfl) rfl
theorem q2251 : (Jvm.Cond.code ({ cls := "java/util/HashMap", name := "putVal", desc := "(ILjava/lang/Object;Ljava/lang/Object;ZZ)Ljava/lang/Object;" } : Jvm.MethodName) prog_68_method_16_code (13 : Nat) (Option.some (Jvm.ClassFile.FieldType.object "java/lang/Object"))) ∈ lw_all := lw_g (lw_at lw_m10 19 rfl) rfl
theorem q2252 : (Jvm.Cond.methodLink "java/util/HashMap" (117 : Nat) ({ cls := "java/util/HashMap", name := "resize", desc := "()[Ljava/util/HashMap$Node;" } : Jvm.MethodName)) ∈ lw_all := lw_g (lw_at lw_m10 20 rfl) rfl
theorem q2253 : (Jvm.Cond.instanceMethod ({ cls := "java/util/HashMap", name := "resize", desc := "()[Ljava/util/HashMap$Node;" } : Jvm.MethodName)) ∈ lw_all := lw_g (lw_at lw_m10 21 rfl) rfl
theorem q2254 : (Jvm.Cond.selects "java/util/HashMap" ({ cls := "java/util/HashMap", name := "resize", desc := "()[Ljava/util/HashMap$Node;" } : Jvm.MethodName) ({ cls := "java/util/HashMap", name := "resize", desc := "()[Ljava/util/HashMap$Node;" } : Jvm.MethodName)) ∈ lw_all := lw_g (lw_at lw_m10 22 rfl) rfl
theorem q2255 : (Jvm.Cond.code ({ cls := "java/util/HashMap", name := "resize", desc := "()[Ljava/util/HashMap$Node;" } : Jvm.MethodName) prog_68_method_17_code (14 : Nat) (Option.some (Jvm.ClassFile.FieldType.array (Jvm.ClassFile.FieldType.object "java/util/HashMap$Node")))) ∈ lw_all := lw_g (lw_at lw_m10 23 rfl) rfl
theorem q2256 : (Jvm.Cond.constant "java/util/HashMap" (42 : Nat) (1073741824 : Int32)) ∈ lw_all := lw_g (lw_at lw_m10 24 rfl) rfl
theorem q2257 : (Jvm.Cond.constant "java/util/HashMap" (209 : Nat) (2147483647 : Int32)) ∈ lw_all := lw_g (lw_at lw_m10 25 rfl) rfl
theorem q2258 : (Jvm.Cond.constantFloat "java/util/HashMap" (210 : Nat) (1317011456 : UInt32)) ∈ lw_all := lw_g (lw_at lw_m10 26 rfl) rfl
theorem q2259 : (Jvm.Cond.classLink "java/util/HashMap" (163 : Nat) "java/util/HashMap$Node") ∈ lw_all := lw_g (lw_at lw_m10 27 rfl) rfl
theorem q2261 : (Jvm.Cond.methodLink "java/util/HashMap" (211 : Nat) ({ cls := "java/util/HashMap$TreeNode", name := "split", desc := "(Ljava/util/HashMap;[Ljava/util/HashMap$Node;II)V" } : Jvm.MethodName)) ∈ lw_all := lw_g (lw_at lw_m10 29 rfl) rfl
theorem q2271 : (Jvm.Cond.instanceMethod ({ cls := "java/util/HashMap", name := "replacementNode", desc := "(Ljava/util/HashMap$Node;Ljava/util/HashMap$Node;)Ljava/util/HashMap$Node;" } : Jvm.MethodName)) ∈ lw_all := lw_g (lw_at lw_m10 39 rfl) rfl
theorem q2272 : (Jvm.Cond.selects "java/util/HashMap" ({ cls := "java/util/HashMap", name := "replacementNode", desc := "(Ljava/util/HashMap$Node;Ljava/util/HashMap$Node;)Ljava/util/HashMap$Node;" } : Jvm.MethodName) ({ cls := "java/util/HashMap", name := "replacementNode", desc := "(Ljava/util/HashMap$Node;Ljava/util/HashMap$Node;)Ljava/util/HashMap$Node;" } : Jvm.MethodName)) ∈ lw_all := lw_g (lw_at lw_m10 40 rfl) rfl
theorem q2273 : (Jvm.Cond.code ({ cls := "java/util/HashMap", name := "replacementNode", desc := "(Ljava/util/HashMap$Node;Ljava/util/HashMap$Node;)Ljava/util/HashMap$Node;" } : Jvm.MethodName) prog_68_method_47_code (3 : Nat) (Option.some (Jvm.ClassFile.FieldType.object "java/util/HashMap$Node"))) ∈ lw_all := lw_g (lw_at lw_m10 41 rfl) rfl
theorem q2275 : (Jvm.Cond.methodLink "java/util/HashMap" (375 : Nat) ({ cls := "java/util/HashMap$Node", name := "<init>", desc := "(ILjava/lang/Object;Ljava/lang/Object;Ljava/util/HashMap$Node;)V" } : Jvm.MethodName)) ∈ lw_all := lw_g (lw_at lw_m10 43 rfl) rfl
theorem q2282 : (Jvm.Cond.fieldLink "java/util/HashMap" (168 : Nat) "java/util/HashMap$Node" "hash" "I") ∈ lw_all := lw_g (lw_at lw_m10 50 rfl) rfl
theorem q2286 : (Jvm.Cond.fieldLink "java/util/HashMap" (170 : Nat) "java/util/HashMap$Node" "key" "Ljava/lang/Object;") ∈ lw_all := lw_g (lw_at lw_m10 54 rfl) rfl
theorem q2288 : (Jvm.Cond.fieldLink "java/util/HashMap" (162 : Nat) "java/util/HashMap$Node" "value" "Ljava/lang/Object;") ∈ lw_all := lw_g (lw_at lw_m10 56 rfl) rfl
theorem q2293 : (Jvm.Cond.fieldLink "java/util/HashMap" (177 : Nat) "java/util/HashMap$Node" "next" "Ljava/util/HashMap$Node;") ∈ lw_all := lw_g (lw_at lw_m10 61 rfl) rfl
theorem q2294 : (Jvm.Cond.fieldLink "java/util/HashMap" (223 : Nat) "java/util/HashMap$TreeNode" "next" "Ljava/util/HashMap$Node;") ∈ lw_all := lw_g (lw_at lw_m10 62 rfl) rfl
theorem q2322 : (Jvm.Cond.methodLink "java/util/HashMap" (186 : Nat) ({ cls := "java/util/HashMap", name := "newNode", desc := "(ILjava/lang/Object;Ljava/lang/Object;Ljava/util/HashMap$Node;)Ljava/util/HashMap$Node;" } : Jvm.MethodName)) ∈ lw_all := lw_g (lw_at lw_m10 90 rfl) rfl
theorem q2323 : (Jvm.Cond.instanceMethod ({ cls := "java/util/HashMap", name := "newNode", desc := "(ILjava/lang/Object;Ljava/lang/Object;Ljava/util/HashMap$Node;)Ljava/util/HashMap$Node;" } : Jvm.MethodName)) ∈ lw_all := lw_g (lw_at lw_m10 91 rfl) rfl
theorem q2324 : (Jvm.Cond.selects "java/util/HashMap" ({ cls := "java/util/HashMap", name := "newNode", desc := "(ILjava/lang/Object;Ljava/lang/Object;Ljava/util/HashMap$Node;)Ljava/util/HashMap$Node;" } : Jvm.MethodName) ({ cls := "java/util/HashMap", name := "newNode", desc := "(ILjava/lang/Object;Ljava/lang/Object;Ljava/util/HashMap$Node;)Ljava/util/HashMap$Node;" } : Jvm.MethodName)) ∈ lw_all := lw_g (lw_at lw_m10 92 rfl) rfl
theorem q2325 : (Jvm.Cond.code ({ cls := "java/util/HashMap", name := "newNode", desc := "(ILjava/lang/Object;Ljava/lang/Object;Ljava/util/HashMap$Node;)Ljava/util/HashMap$Node;" } : Jvm.MethodName) prog_68_method_46_code (5 : Nat) (Option.some (Jvm.ClassFile.FieldType.object "java/util/HashMap$Node"))) ∈ lw_all := lw_g (lw_at lw_m10 93 rfl) rfl
theorem q2326 : (Jvm.Cond.methodLink "java/util/HashMap" (190 : Nat) ({ cls := "java/util/HashMap$TreeNode", name := "putTreeVal", desc := "(Ljava/util/HashMap;[Ljava/util/HashMap$Node;ILjava/lang/Object;Ljava/lang/Object;)Ljava/util/HashMap$TreeNode;" } : Jvm.MethodName)) ∈ lw_all := lw_g (lw_at lw_m10 94 rfl) rfl
theorem q2331 : (Jvm.Cond.instanceMethod ({ cls := "java/util/HashMap", name := "newTreeNode", desc := "(ILjava/lang/Object;Ljava/lang/Object;Ljava/util/HashMap$Node;)Ljava/util/HashMap$TreeNode;" } : Jvm.MethodName)) ∈ lw_all := lw_g (lw_at lw_m10 99 rfl) rfl
theorem q2332 : (Jvm.Cond.selects "java/util/HashMap" ({ cls := "java/util/HashMap", name := "newTreeNode", desc := "(ILjava/lang/Object;Ljava/lang/Object;Ljava/util/HashMap$Node;)Ljava/util/HashMap$TreeNode;" } : Jvm.MethodName) ({ cls := "java/util/HashMap", name := "newTreeNode", desc := "(ILjava/lang/Object;Ljava/lang/Object;Ljava/util/HashMap$Node;)Ljava/util/HashMap$TreeNode;" } : Jvm.MethodName)) ∈ lw_all := lw_g (lw_at lw_m10 100 rfl) rfl
theorem q2333 : (Jvm.Cond.code ({ cls := "java/util/HashMap", name := "newTreeNode", desc := "(ILjava/lang/Object;Ljava/lang/Object;Ljava/util/HashMap$Node;)Ljava/util/HashMap$TreeNode;" } : Jvm.MethodName) prog_68_method_48_code (5 : Nat) (Option.some (Jvm.ClassFile.FieldType.object "java/util/HashMap$TreeNode"))) ∈ lw_all := lw_g (lw_at lw_m10 101 rfl) rfl
theorem q2335 : (Jvm.Cond.methodLink "java/util/HashMap" (378 : Nat) ({ cls := "java/util/HashMap$TreeNode", name := "<init>", desc := "(ILjava/lang/Object;Ljava/lang/Object;Ljava/util/HashMap$Node;)V" } : Jvm.MethodName)) ∈ lw_all := lw_g (lw_at lw_m10 103 rfl) rfl
theorem q2346 : (Jvm.Cond.fieldLink "java/util/HashMap" (219 : Nat) "java/util/HashMap$TreeNode" "prev" "Ljava/util/HashMap$TreeNode;") ∈ lw_all := lw_g (lw_at lw_m10 114 rfl) rfl
theorem q2367 : (Jvm.Cond.methodLink "java/util/HashMap" (194 : Nat) ({ cls := "java/util/HashMap", name := "treeifyBin", desc := "([Ljava/util/HashMap$Node;I)V" } : Jvm.MethodName)) ∈ lw_all := lw_g (lw_at lw_m10 135 rfl) rfl
theorem q2368 : (Jvm.Cond.instanceMethod ({ cls := "java/util/HashMap", name := "treeifyBin", desc := "([Ljava/util/HashMap$Node;I)V" } : Jvm.MethodName)) ∈ lw_all := lw_g (lw_at lw_m10 136 rfl) rfl
theorem q2369 : (Jvm.Cond.selects "java/util/HashMap" ({ cls := "java/util/HashMap", name := "treeifyBin", desc := "([Ljava/util/HashMap$Node;I)V" } : Jvm.MethodName) ({ cls := "java/util/HashMap", name := "treeifyBin", desc := "([Ljava/util/HashMap$Node;I)V" } : Jvm.MethodName)) ∈ lw_all := lw_g (lw_at lw_m10 137 rfl) rfl
theorem q2370 : (Jvm.Cond.code ({ cls := "java/util/HashMap", name := "treeifyBin", desc := "([Ljava/util/HashMap$Node;I)V" } : Jvm.MethodName) prog_68_method_18_code (9 : Nat) (Option.none : Option Jvm.ClassFile.FieldType)) ∈ lw_all := lw_g (lw_at lw_m10 138 rfl) rfl
theorem q2371 : (Jvm.Cond.methodLink "java/util/HashMap" (215 : Nat) ({ cls := "java/util/HashMap", name := "replacementTreeNode", desc := "(Ljava/util/HashMap$Node;Ljava/util/HashMap$Node;)Ljava/util/HashMap$TreeNode;" } : Jvm.MethodName)) ∈ lw_all := lw_g (lw_at lw_m10 139 rfl) rfl
theorem q2372 : (Jvm.Cond.instanceMethod ({ cls := "java/util/HashMap", name := "replacementTreeNode", desc := "(Ljava/util/HashMap$Node;Ljava/util/HashMap$Node;)Ljava/util/HashMap$TreeNode;" } : Jvm.MethodName)) ∈ lw_all := lw_g (lw_at lw_m10 140 rfl) rfl
theorem q2373 : (Jvm.Cond.selects "java/util/HashMap" ({ cls := "java/util/HashMap", name := "replacementTreeNode", desc := "(Ljava/util/HashMap$Node;Ljava/util/HashMap$Node;)Ljava/util/HashMap$TreeNode;" } : Jvm.MethodName) ({ cls := "java/util/HashMap", name := "replacementTreeNode", desc := "(Ljava/util/HashMap$Node;Ljava/util/HashMap$Node;)Ljava/util/HashMap$TreeNode;" } : Jvm.MethodName)) ∈ lw_all := lw_g (lw_at lw_m10 141 rfl) rfl
theorem q2374 : (Jvm.Cond.code ({ cls := "java/util/HashMap", name := "replacementTreeNode", desc := "(Ljava/util/HashMap$Node;Ljava/util/HashMap$Node;)Ljava/util/HashMap$TreeNode;" } : Jvm.MethodName) prog_68_method_49_code (3 : Nat) (Option.some (Jvm.ClassFile.FieldType.object "java/util/HashMap$TreeNode"))) ∈ lw_all := lw_g (lw_at lw_m10 142 rfl) rfl
theorem q2375 : (Jvm.Cond.methodLink "java/util/HashMap" (224 : Nat) ({ cls := "java/util/HashMap$TreeNode", name := "treeify", desc := "([Ljava/util/HashMap$Node;)V" } : Jvm.MethodName)) ∈ lw_all := lw_g (lw_at lw_m10 143 rfl) rfl
theorem q2376 : (Jvm.Cond.methodLink "java/util/HashMap" (198 : Nat) ({ cls := "java/util/HashMap", name := "afterNodeAccess", desc := "(Ljava/util/HashMap$Node;)V" } : Jvm.MethodName)) ∈ lw_all := lw_g (lw_at lw_m10 144 rfl) rfl
theorem q2377 : (Jvm.Cond.instanceMethod ({ cls := "java/util/HashMap", name := "afterNodeAccess", desc := "(Ljava/util/HashMap$Node;)V" } : Jvm.MethodName)) ∈ lw_all := lw_g (lw_at lw_m10 145 rfl) rfl
theorem q2378 : (Jvm.Cond.selects "java/util/HashMap" ({ cls := "java/util/HashMap", name := "afterNodeAccess", desc := "(Ljava/util/HashMap$Node;)V" } : Jvm.MethodName) ({ cls := "java/util/HashMap", name := "afterNodeAccess", desc := "(Ljava/util/HashMap$Node;)V" } : Jvm.MethodName)) ∈ lw_all := lw_g (lw_at lw_m10 146 rfl) rfl
theorem q2379 : (Jvm.Cond.code ({ cls := "java/util/HashMap", name := "afterNodeAccess", desc := "(Ljava/util/HashMap$Node;)V" } : Jvm.MethodName) prog_68_method_51_code (2 : Nat) (Option.none : Option Jvm.ClassFile.FieldType)) ∈ lw_all := lw_g (lw_at lw_m10 147 rfl) rfl
theorem q2380 : (Jvm.Cond.methodLink "java/util/HashMap" (205 : Nat) ({ cls := "java/util/HashMap", name := "afterNodeInsertion", desc := "(Z)V" } : Jvm.MethodName)) ∈ lw_all := lw_g (lw_at lw_m10 148 rfl) rfl
theorem q2381 : (Jvm.Cond.instanceMethod ({ cls := "java/util/HashMap", name := "afterNodeInsertion", desc := "(Z)V" } : Jvm.MethodName)) ∈ lw_all := lw_g (lw_at lw_m10 149 rfl) rfl
theorem q2382 : (Jvm.Cond.selects "java/util/HashMap" ({ cls := "java/util/HashMap", name := "afterNodeInsertion", desc := "(Z)V" } : Jvm.MethodName) ({ cls := "java/util/HashMap", name := "afterNodeInsertion", desc := "(Z)V" } : Jvm.MethodName)) ∈ lw_all := lw_g (lw_at lw_m10 150 rfl) rfl
theorem q2383 : (Jvm.Cond.code ({ cls := "java/util/HashMap", name := "afterNodeInsertion", desc := "(Z)V" } : Jvm.MethodName) prog_68_method_52_code (2 : Nat) (Option.none : Option Jvm.ClassFile.FieldType)) ∈ lw_all := lw_g (lw_at lw_m10 151 rfl) rfl
theorem q2609 : (Jvm.Cond.selects "java/util/HashMap" ({ cls := "java/util/Map", name := "size", desc := "()I" } : Jvm.MethodName) ({ cls := "java/util/HashMap", name := "size", desc := "()I" } : Jvm.MethodName)) ∈ lw_all := lw_g (lw_at lw_m11 137 rfl) rfl
theorem q2610 : (Jvm.Cond.unhidden "java/util/HashMap" "size" "()I") ∈ lw_tbl := lw_at lw_m11 138 rfl
theorem q2611 : (Jvm.Cond.instanceMethod ({ cls := "java/util/HashMap", name := "size", desc := "()I" } : Jvm.MethodName)) ∈ lw_all := lw_g (lw_at lw_m11 139 rfl) rfl
theorem q2612 : (Jvm.Cond.publicMethod ({ cls := "java/util/HashMap", name := "size", desc := "()I" } : Jvm.MethodName)) ∈ lw_tbl := lw_at lw_m11 140 rfl
theorem q2613 : (Jvm.Cond.code ({ cls := "java/util/HashMap", name := "size", desc := "()I" } : Jvm.MethodName) prog_68_method_10_code (1 : Nat) (Option.some Jvm.ClassFile.FieldType.int)) ∈ lw_all := lw_g (lw_at lw_m11 141 rfl) rfl
theorem q3138 : (Jvm.Cond.selects "java/util/HashMap" ({ cls := "java/util/HashMap", name := "put", desc := "(Ljava/lang/Object;Ljava/lang/Object;)Ljava/lang/Object;" } : Jvm.MethodName) ({ cls := "java/util/HashMap", name := "put", desc := "(Ljava/lang/Object;Ljava/lang/Object;)Ljava/lang/Object;" } : Jvm.MethodName)) ∈ lw_all := lw_g (lw_at lw_m13 186 rfl) rfl
theorem q3183 : (Jvm.Cond.castable "java/util/HashMap" "java/lang/Object") ∈ lw_tbl := lw_at lw_m13 231 rfl
theorem in_J30 : ∀ w ∈ wsJ300, w ∈ lw_all := lw_in wsJ300 [1792, 1794, 1780, 1782, 1784, 1786, 1788, 1790] (by decide +kernel) (by decide +kernel)
/-! java/lang/Long -/
set_option maxRecDepth 100000
def RJ32 : String := "java/lang/Long"
abbrev cJ32_numberOfLeadingZeros : ByteArray := prog_43_method_48_code
def yJ32_numberOfLeadingZeros : MethodName := ⟨RJ32, "numberOfLeadingZeros", "(J)I"⟩
def dkwJ32_numberOfLeadingZeros_1 : List UInt8 := [184, 1, 52, 172]
abbrev dktJ32_numberOfLeadingZeros_1 : List UInt8 := dkwJ32_numberOfLeadingZeros_1 ++ []
def dkwJ32_numberOfLeadingZeros_0 : List UInt8 := [30, 16, 32, 125, 136, 61, 28, 154, 0, 14, 16, 32, 30, 136, 184, 1, 52, 96, 167, 0, 7, 28]
abbrev dktJ32_numberOfLeadingZeros_0 : List UInt8 := dkwJ32_numberOfLeadingZeros_0 ++ dktJ32_numberOfLeadingZeros_1
theorem dksJ32_numberOfLeadingZeros_0 : cJ32_numberOfLeadingZeros.data.toList.drop 0 = dktJ32_numberOfLeadingZeros_0 := by decide +kernel
theorem dksJ32_numberOfLeadingZeros_1 : cJ32_numberOfLeadingZeros.data.toList.drop 22 = dktJ32_numberOfLeadingZeros_1 := dk_seg dksJ32_numberOfLeadingZeros_0 22 rfl rfl
theorem dJ32_numberOfLeadingZeros_0 : decode cJ32_numberOfLeadingZeros 0 = .ok (.lload_n 0, 1) := dk_30 (dk_at dksJ32_numberOfLeadingZeros_0 0 rfl rfl)
theorem dJ32_numberOfLeadingZeros_1 : decode cJ32_numberOfLeadingZeros 1 = .ok (.bipush 32, 2) := dk_16 32 (dk_at dksJ32_numberOfLeadingZeros_0 1 rfl rfl)
theorem dJ32_numberOfLeadingZeros_3 : decode cJ32_numberOfLeadingZeros 3 = .ok (.lushr, 1) := dk_125 (dk_at dksJ32_numberOfLeadingZeros_0 3 rfl rfl)
theorem dJ32_numberOfLeadingZeros_4 : decode cJ32_numberOfLeadingZeros 4 = .ok (.l2i, 1) := dk_136 (dk_at dksJ32_numberOfLeadingZeros_0 4 rfl rfl)
theorem dJ32_numberOfLeadingZeros_5 : decode cJ32_numberOfLeadingZeros 5 = .ok (.istore_n 2, 1) := dk_61 (dk_at dksJ32_numberOfLeadingZeros_0 5 rfl rfl)
theorem dJ32_numberOfLeadingZeros_6 : decode cJ32_numberOfLeadingZeros 6 = .ok (.iload_n 2, 1) := dk_28 (dk_at dksJ32_numberOfLeadingZeros_0 6 rfl rfl)
theorem dJ32_numberOfLeadingZeros_7 : decode cJ32_numberOfLeadingZeros 7 = .ok (.ifCond .ne 14, 3) := dk_154 0 14 (dk_at dksJ32_numberOfLeadingZeros_0 7 rfl rfl)
theorem dJ32_numberOfLeadingZeros_10 : decode cJ32_numberOfLeadingZeros 10 = .ok (.bipush 32, 2) := dk_16 32 (dk_at dksJ32_numberOfLeadingZeros_0 10 rfl rfl)
theorem dJ32_numberOfLeadingZeros_12 : decode cJ32_numberOfLeadingZeros 12 = .ok (.lload_n 0, 1) := dk_30 (dk_at dksJ32_numberOfLeadingZeros_0 12 rfl rfl)
theorem dJ32_numberOfLeadingZeros_13 : decode cJ32_numberOfLeadingZeros 13 = .ok (.l2i, 1) := dk_136 (dk_at dksJ32_numberOfLeadingZeros_0 13 rfl rfl)
theorem dJ32_numberOfLeadingZeros_14 : decode cJ32_numberOfLeadingZeros 14 = .ok (.invokestatic 308, 3) := dk_184 1 52 (dk_at dksJ32_numberOfLeadingZeros_0 14 rfl rfl)
theorem dJ32_numberOfLeadingZeros_17 : decode cJ32_numberOfLeadingZeros 17 = .ok (.iadd, 1) := dk_96 (dk_at dksJ32_numberOfLeadingZeros_0 17 rfl rfl)
theorem dJ32_numberOfLeadingZeros_18 : decode cJ32_numberOfLeadingZeros 18 = .ok (.goto 7, 3) := dk_167 0 7 (dk_at dksJ32_numberOfLeadingZeros_0 18 rfl rfl)
theorem dJ32_numberOfLeadingZeros_21 : decode cJ32_numberOfLeadingZeros 21 = .ok (.iload_n 2, 1) := dk_28 (dk_at dksJ32_numberOfLeadingZeros_0 21 rfl rfl)
theorem dJ32_numberOfLeadingZeros_22 : decode cJ32_numberOfLeadingZeros 22 = .ok (.invokestatic 308, 3) := dk_184 1 52 (dk_at dksJ32_numberOfLeadingZeros_1 0 rfl rfl)
theorem dJ32_numberOfLeadingZeros_25 : decode cJ32_numberOfLeadingZeros 25 = .ok (.ireturn, 1) := dk_172 (dk_at dksJ32_numberOfLeadingZeros_1 3 rfl rfl)
abbrev cJ32_numberOfTrailingZeros : ByteArray := prog_43_method_49_code
def yJ32_numberOfTrailingZeros : MethodName := ⟨RJ32, "numberOfTrailingZeros", "(J)I"⟩
def dkwJ32_numberOfTrailingZeros_1 : List UInt8 := [184, 1, 55, 172]
abbrev dktJ32_numberOfTrailingZeros_1 : List UInt8 := dkwJ32_numberOfTrailingZeros_1 ++ []
def dkwJ32_numberOfTrailingZeros_0 : List UInt8 := [30, 136, 61, 28, 154, 0, 17, 16, 32, 30, 16, 32, 125, 136, 184, 1, 55, 96, 167, 0, 7, 28]
abbrev dktJ32_numberOfTrailingZeros_0 : List UInt8 := dkwJ32_numberOfTrailingZeros_0 ++ dktJ32_numberOfTrailingZeros_1
theorem dksJ32_numberOfTrailingZeros_0 : cJ32_numberOfTrailingZeros.data.toList.drop 0 = dktJ32_numberOfTrailingZeros_0 := by decide +kernel
theorem dksJ32_numberOfTrailingZeros_1 : cJ32_numberOfTrailingZeros.data.toList.drop 22 = dktJ32_numberOfTrailingZeros_1 := dk_seg dksJ32_numberOfTrailingZeros_0 22 rfl rfl
theorem dJ32_numberOfTrailingZeros_0 : decode cJ32_numberOfTrailingZeros 0 = .ok (.lload_n 0, 1) := dk_30 (dk_at dksJ32_numberOfTrailingZeros_0 0 rfl rfl)
theorem dJ32_numberOfTrailingZeros_1 : decode cJ32_numberOfTrailingZeros 1 = .ok (.l2i, 1) := dk_136 (dk_at dksJ32_numberOfTrailingZeros_0 1 rfl rfl)
theorem dJ32_numberOfTrailingZeros_2 : decode cJ32_numberOfTrailingZeros 2 = .ok (.istore_n 2, 1) := dk_61 (dk_at dksJ32_numberOfTrailingZeros_0 2 rfl rfl)
theorem dJ32_numberOfTrailingZeros_3 : decode cJ32_numberOfTrailingZeros 3 = .ok (.iload_n 2, 1) := dk_28 (dk_at dksJ32_numberOfTrailingZeros_0 3 rfl rfl)
theorem dJ32_numberOfTrailingZeros_4 : decode cJ32_numberOfTrailingZeros 4 = .ok (.ifCond .ne 17, 3) := dk_154 0 17 (dk_at dksJ32_numberOfTrailingZeros_0 4 rfl rfl)
theorem dJ32_numberOfTrailingZeros_7 : decode cJ32_numberOfTrailingZeros 7 = .ok (.bipush 32, 2) := dk_16 32 (dk_at dksJ32_numberOfTrailingZeros_0 7 rfl rfl)
theorem dJ32_numberOfTrailingZeros_9 : decode cJ32_numberOfTrailingZeros 9 = .ok (.lload_n 0, 1) := dk_30 (dk_at dksJ32_numberOfTrailingZeros_0 9 rfl rfl)
theorem dJ32_numberOfTrailingZeros_10 : decode cJ32_numberOfTrailingZeros 10 = .ok (.bipush 32, 2) := dk_16 32 (dk_at dksJ32_numberOfTrailingZeros_0 10 rfl rfl)
theorem dJ32_numberOfTrailingZeros_12 : decode cJ32_numberOfTrailingZeros 12 = .ok (.lushr, 1) := dk_125 (dk_at dksJ32_numberOfTrailingZeros_0 12 rfl rfl)
theorem dJ32_numberOfTrailingZeros_13 : decode cJ32_numberOfTrailingZeros 13 = .ok (.l2i, 1) := dk_136 (dk_at dksJ32_numberOfTrailingZeros_0 13 rfl rfl)
theorem dJ32_numberOfTrailingZeros_14 : decode cJ32_numberOfTrailingZeros 14 = .ok (.invokestatic 311, 3) := dk_184 1 55 (dk_at dksJ32_numberOfTrailingZeros_0 14 rfl rfl)
theorem dJ32_numberOfTrailingZeros_17 : decode cJ32_numberOfTrailingZeros 17 = .ok (.iadd, 1) := dk_96 (dk_at dksJ32_numberOfTrailingZeros_0 17 rfl rfl)
theorem dJ32_numberOfTrailingZeros_18 : decode cJ32_numberOfTrailingZeros 18 = .ok (.goto 7, 3) := dk_167 0 7 (dk_at dksJ32_numberOfTrailingZeros_0 18 rfl rfl)
theorem dJ32_numberOfTrailingZeros_21 : decode cJ32_numberOfTrailingZeros 21 = .ok (.iload_n 2, 1) := dk_28 (dk_at dksJ32_numberOfTrailingZeros_0 21 rfl rfl)
theorem dJ32_numberOfTrailingZeros_22 : decode cJ32_numberOfTrailingZeros 22 = .ok (.invokestatic 311, 3) := dk_184 1 55 (dk_at dksJ32_numberOfTrailingZeros_1 0 rfl rfl)
theorem dJ32_numberOfTrailingZeros_25 : decode cJ32_numberOfTrailingZeros 25 = .ok (.ireturn, 1) := dk_172 (dk_at dksJ32_numberOfTrailingZeros_1 3 rfl rfl)
theorem q124 : (Jvm.Cond.initialized "java/lang/Long") ∈ lw_all := lw_g (lw_at lw_m1 52 rfl) rfl
theorem q2126 : (Jvm.Cond.static ({ cls := "java/lang/Long", name := "numberOfLeadingZeros", desc := "(J)I" } : Jvm.MethodName)) ∈ lw_all := lw_g (lw_at lw_m9 134 rfl) rfl
theorem q2127 : (Jvm.Cond.code ({ cls := "java/lang/Long", name := "numberOfLeadingZeros", desc := "(J)I" } : Jvm.MethodName) prog_43_method_48_code (3 : Nat) (Option.some Jvm.ClassFile.FieldType.int)) ∈ lw_all := lw_g (lw_at lw_m9 135 rfl) rfl
theorem q2128 : (Jvm.Cond.methodLink "java/lang/Long" (308 : Nat) ({ cls := "java/lang/Integer", name := "numberOfLeadingZeros", desc := "(I)I" } : Jvm.MethodName)) ∈ lw_all := lw_g (lw_at lw_m9 136 rfl) rfl
theorem q2135 : (Jvm.Cond.static ({ cls := "java/lang/Long", name := "numberOfTrailingZeros", desc := "(J)I" } : Jvm.MethodName)) ∈ lw_all := lw_g (lw_at lw_m9 143 rfl) rfl
theorem q2136 : (Jvm.Cond.code ({ cls := "java/lang/Long", name := "numberOfTrailingZeros", desc := "(J)I" } : Jvm.MethodName) prog_43_method_49_code (3 : Nat) (Option.some Jvm.ClassFile.FieldType.int)) ∈ lw_all := lw_g (lw_at lw_m9 144 rfl) rfl
theorem q2137 : (Jvm.Cond.methodLink "java/lang/Long" (311 : Nat) ({ cls := "java/lang/Integer", name := "numberOfTrailingZeros", desc := "(I)I" } : Jvm.MethodName)) ∈ lw_all := lw_g (lw_at lw_m9 145 rfl) rfl
/-! java/util/HashMap$Node -/
set_option maxRecDepth 100000
def RJ33 : String := "java/util/HashMap$Node"
def TJ33 : u_T := fun k => match k with
  | 0 => ("java/util/HashMap$Node", "hash", "I", true)
  | 1 => ("java/util/HashMap$Node", "key", "Ljava/lang/Object;", true)
  | 2 => ("java/util/HashMap$Node", "value", "Ljava/lang/Object;", false)
  | _ => ("java/util/HashMap$Node", "next", "Ljava/util/HashMap$Node;", false)
def tyJ33 : Nat → FieldType := fun k => match k with
  | 0 => .int
  | 1 => .object "java/lang/Object"
  | 2 => .object "java/lang/Object"
  | _ => .object "java/util/HashMap$Node"
abbrev wsJ330 : List Cond := u_ws RJ33 TJ33 4
theorem nmJ33 : ∀ a, a < 4 → ∀ b, b < 4 → a ≠ b → (TJ33 a).2.1 ≠ (TJ33 b).2.1 := by decide +kernel
theorem tyJ33_ok : ∀ k, k < 4 → parseFieldDescriptor (TJ33 k).2.2.1 = some (tyJ33 k) := by decide +kernel
abbrev cJ33_init : ByteArray := prog_69_method_1_code
def yJ33_init : MethodName := ⟨RJ33, "<init>", "(ILjava/lang/Object;Ljava/lang/Object;Ljava/util/HashMap$Node;)V"⟩
def dkwJ33_init_1 : List UInt8 := [181, 0, 20, 177]
abbrev dktJ33_init_1 : List UInt8 := dkwJ33_init_1 ++ []
def dkwJ33_init_0 : List UInt8 := [42, 183, 0, 1, 42, 27, 181, 0, 7, 42, 44, 181, 0, 13, 42, 45, 181, 0, 17, 42, 25, 4]
abbrev dktJ33_init_0 : List UInt8 := dkwJ33_init_0 ++ dktJ33_init_1
theorem dksJ33_init_0 : cJ33_init.data.toList.drop 0 = dktJ33_init_0 := by decide +kernel
theorem dksJ33_init_1 : cJ33_init.data.toList.drop 22 = dktJ33_init_1 := dk_seg dksJ33_init_0 22 rfl rfl
theorem dJ33_init_0 : decode cJ33_init 0 = .ok (.aload_n 0, 1) := dk_42 (dk_at dksJ33_init_0 0 rfl rfl)
theorem dJ33_init_1 : decode cJ33_init 1 = .ok (.invokespecial 1, 3) := dk_183 0 1 (dk_at dksJ33_init_0 1 rfl rfl)
theorem dJ33_init_4 : decode cJ33_init 4 = .ok (.aload_n 0, 1) := dk_42 (dk_at dksJ33_init_0 4 rfl rfl)
theorem dJ33_init_5 : decode cJ33_init 5 = .ok (.iload_n 1, 1) := dk_27 (dk_at dksJ33_init_0 5 rfl rfl)
theorem dJ33_init_6 : decode cJ33_init 6 = .ok (.putfield 7, 3) := dk_181 0 7 (dk_at dksJ33_init_0 6 rfl rfl)
theorem dJ33_init_9 : decode cJ33_init 9 = .ok (.aload_n 0, 1) := dk_42 (dk_at dksJ33_init_0 9 rfl rfl)
theorem dJ33_init_10 : decode cJ33_init 10 = .ok (.aload_n 2, 1) := dk_44 (dk_at dksJ33_init_0 10 rfl rfl)
theorem dJ33_init_11 : decode cJ33_init 11 = .ok (.putfield 13, 3) := dk_181 0 13 (dk_at dksJ33_init_0 11 rfl rfl)
theorem dJ33_init_14 : decode cJ33_init 14 = .ok (.aload_n 0, 1) := dk_42 (dk_at dksJ33_init_0 14 rfl rfl)
theorem dJ33_init_15 : decode cJ33_init 15 = .ok (.aload_n 3, 1) := dk_45 (dk_at dksJ33_init_0 15 rfl rfl)
theorem dJ33_init_16 : decode cJ33_init 16 = .ok (.putfield 17, 3) := dk_181 0 17 (dk_at dksJ33_init_0 16 rfl rfl)
theorem dJ33_init_19 : decode cJ33_init 19 = .ok (.aload_n 0, 1) := dk_42 (dk_at dksJ33_init_0 19 rfl rfl)
theorem dJ33_init_20 : decode cJ33_init 20 = .ok (.aload 4, 2) := dk_25 4 (dk_at dksJ33_init_0 20 rfl rfl)
theorem dJ33_init_22 : decode cJ33_init 22 = .ok (.putfield 20, 3) := dk_181 0 20 (dk_at dksJ33_init_1 0 rfl rfl)
theorem dJ33_init_25 : decode cJ33_init 25 = .ok (.return_, 1) := dk_177 (dk_at dksJ33_init_1 3 rfl rfl)
theorem q126 : (Jvm.Cond.initialized "java/util/HashMap$Node") ∈ lw_all := lw_g (lw_at lw_m1 54 rfl) rfl
theorem q525 : (Jvm.Cond.selects "java/util/HashMap$Node" ({ cls := "java/lang/Object", name := "getClass", desc := "()Ljava/lang/Class;" } : Jvm.MethodName) ({ cls := "java/lang/Object", name := "getClass", desc := "()Ljava/lang/Class;" } : Jvm.MethodName)) ∈ lw_all := lw_g (lw_at lw_m2 213 rfl) rfl
theorem q2274 : (Jvm.Cond.instantiable "java/util/HashMap$Node" (4 : Nat)) ∈ lw_all := lw_g (lw_at lw_m10 42 rfl) rfl
theorem q2276 : (Jvm.Cond.instanceMethod ({ cls := "java/util/HashMap$Node", name := "<init>", desc := "(ILjava/lang/Object;Ljava/lang/Object;Ljava/util/HashMap$Node;)V" } : Jvm.MethodName)) ∈ lw_all := lw_g (lw_at lw_m10 44 rfl) rfl
theorem q2277 : (Jvm.Cond.code ({ cls := "java/util/HashMap$Node", name := "<init>", desc := "(ILjava/lang/Object;Ljava/lang/Object;Ljava/util/HashMap$Node;)V" } : Jvm.MethodName) prog_69_method_1_code (5 : Nat) (Option.none : Option Jvm.ClassFile.FieldType)) ∈ lw_all := lw_g (lw_at lw_m10 45 rfl) rfl
theorem q2278 : (Jvm.Cond.methodLink "java/util/HashMap$Node" (1 : Nat) ({ cls := "java/lang/Object", name := "<init>", desc := "()V" } : Jvm.MethodName)) ∈ lw_all := lw_g (lw_at lw_m10 46 rfl) rfl
theorem q2279 : (Jvm.Cond.fieldLink "java/util/HashMap$Node" (7 : Nat) "java/util/HashMap$Node" "hash" "I") ∈ lw_all := lw_g (lw_at lw_m10 47 rfl) rfl
theorem q2283 : (Jvm.Cond.fieldLink "java/util/HashMap$Node" (13 : Nat) "java/util/HashMap$Node" "key" "Ljava/lang/Object;") ∈ lw_all := lw_g (lw_at lw_m10 51 rfl) rfl
theorem q2287 : (Jvm.Cond.fieldLink "java/util/HashMap$Node" (17 : Nat) "java/util/HashMap$Node" "value" "Ljava/lang/Object;") ∈ lw_all := lw_g (lw_at lw_m10 55 rfl) rfl
theorem q2289 : (Jvm.Cond.fieldLink "java/util/HashMap$Node" (20 : Nat) "java/util/HashMap$Node" "next" "Ljava/util/HashMap$Node;") ∈ lw_all := lw_g (lw_at lw_m10 57 rfl) rfl
theorem q2295 : (Jvm.Cond.laysFinal "java/util/HashMap$Node" "java/util/HashMap$Node" "hash" "I") ∈ lw_all := lw_g (lw_at lw_m10 63 rfl) rfl
theorem q2296 : (Jvm.Cond.soleField "java/util/HashMap$Node" "hash") ∈ lw_all := lw_g (lw_at lw_m10 64 rfl) rfl
theorem q2297 : (Jvm.Cond.laysFinal "java/util/HashMap$Node" "java/util/HashMap$Node" "key" "Ljava/lang/Object;") ∈ lw_all := lw_g (lw_at lw_m10 65 rfl) rfl
theorem q2298 : (Jvm.Cond.soleField "java/util/HashMap$Node" "key") ∈ lw_all := lw_g (lw_at lw_m10 66 rfl) rfl
theorem q2299 : (Jvm.Cond.lays "java/util/HashMap$Node" "java/util/HashMap$Node" "value" "Ljava/lang/Object;") ∈ lw_all := lw_g (lw_at lw_m10 67 rfl) rfl
theorem q2300 : (Jvm.Cond.soleField "java/util/HashMap$Node" "value") ∈ lw_all := lw_g (lw_at lw_m10 68 rfl) rfl
theorem q2301 : (Jvm.Cond.lays "java/util/HashMap$Node" "java/util/HashMap$Node" "next" "Ljava/util/HashMap$Node;") ∈ lw_all := lw_g (lw_at lw_m10 69 rfl) rfl
theorem q2302 : (Jvm.Cond.soleField "java/util/HashMap$Node" "next") ∈ lw_all := lw_g (lw_at lw_m10 70 rfl) rfl
theorem q2303 : (Jvm.Cond.superclass "java/util/HashMap$Node" "java/lang/Object") ∈ lw_all := lw_g (lw_at lw_m10 71 rfl) rfl
theorem q3151 : (Jvm.Cond.castable "java/util/HashMap$Node" "java/lang/Object") ∈ lw_tbl := lw_at lw_m13 199 rfl
theorem in_J33 : ∀ w ∈ wsJ330, w ∈ lw_all := lw_in wsJ330 [2295, 2297, 2299, 2301] (by decide +kernel) (by decide +kernel)
/-! java/util/LinkedHashMap$Entry -/
set_option maxRecDepth 100000
def RJ34 : String := "java/util/LinkedHashMap$Entry"
abbrev cJ34_init : ByteArray := prog_73_method_1_code
def yJ34_init : MethodName := ⟨RJ34, "<init>", "(ILjava/lang/Object;Ljava/lang/Object;Ljava/util/HashMap$Node;)V"⟩
def dkwJ34_init_0 : List UInt8 := [42, 27, 44, 45, 25, 4, 183, 0, 1, 177]
abbrev dktJ34_init_0 : List UInt8 := dkwJ34_init_0 ++ []
theorem dksJ34_init_0 : cJ34_init.data.toList.drop 0 = dktJ34_init_0 := by decide +kernel
theorem dJ34_init_0 : decode cJ34_init 0 = .ok (.aload_n 0, 1) := dk_42 (dk_at dksJ34_init_0 0 rfl rfl)
theorem dJ34_init_1 : decode cJ34_init 1 = .ok (.iload_n 1, 1) := dk_27 (dk_at dksJ34_init_0 1 rfl rfl)
theorem dJ34_init_2 : decode cJ34_init 2 = .ok (.aload_n 2, 1) := dk_44 (dk_at dksJ34_init_0 2 rfl rfl)
theorem dJ34_init_3 : decode cJ34_init 3 = .ok (.aload_n 3, 1) := dk_45 (dk_at dksJ34_init_0 3 rfl rfl)
theorem dJ34_init_4 : decode cJ34_init 4 = .ok (.aload 4, 2) := dk_25 4 (dk_at dksJ34_init_0 4 rfl rfl)
theorem dJ34_init_6 : decode cJ34_init 6 = .ok (.invokespecial 1, 3) := dk_183 0 1 (dk_at dksJ34_init_0 6 rfl rfl)
theorem dJ34_init_9 : decode cJ34_init 9 = .ok (.return_, 1) := dk_177 (dk_at dksJ34_init_0 9 rfl rfl)
theorem q127 : (Jvm.Cond.initialized "java/util/LinkedHashMap$Entry") ∈ lw_all := lw_g (lw_at lw_m1 55 rfl) rfl
theorem q2339 : (Jvm.Cond.instanceMethod ({ cls := "java/util/LinkedHashMap$Entry", name := "<init>", desc := "(ILjava/lang/Object;Ljava/lang/Object;Ljava/util/HashMap$Node;)V" } : Jvm.MethodName)) ∈ lw_all := lw_g (lw_at lw_m10 107 rfl) rfl
theorem q2340 : (Jvm.Cond.code ({ cls := "java/util/LinkedHashMap$Entry", name := "<init>", desc := "(ILjava/lang/Object;Ljava/lang/Object;Ljava/util/HashMap$Node;)V" } : Jvm.MethodName) prog_73_method_1_code (5 : Nat) (Option.none : Option Jvm.ClassFile.FieldType)) ∈ lw_all := lw_g (lw_at lw_m10 108 rfl) rfl
theorem q2341 : (Jvm.Cond.methodLink "java/util/LinkedHashMap$Entry" (1 : Nat) ({ cls := "java/util/HashMap$Node", name := "<init>", desc := "(ILjava/lang/Object;Ljava/lang/Object;Ljava/util/HashMap$Node;)V" } : Jvm.MethodName)) ∈ lw_all := lw_g (lw_at lw_m10 109 rfl) rfl
theorem q2359 : (Jvm.Cond.soleField "java/util/LinkedHashMap$Entry" "before") ∈ lw_all := lw_g (lw_at lw_m10 127 rfl) rfl
theorem q2361 : (Jvm.Cond.soleField "java/util/LinkedHashMap$Entry" "after") ∈ lw_all := lw_g (lw_at lw_m10 129 rfl) rfl
/-! java/util/AbstractSet -/
set_option maxRecDepth 100000
def RJ36 : String := "java/util/AbstractSet"
abbrev cJ36_init : ByteArray := prog_61_method_1_code
def yJ36_init : MethodName := ⟨RJ36, "<init>", "()V"⟩
theorem dJ36_init_0 : decode cJ36_init 0 = .ok (.aload_n 0, 1) := by decide +kernel
theorem dJ36_init_1 : decode cJ36_init 1 = .ok (.invokespecial 1, 3) := by decide +kernel
theorem dJ36_init_4 : decode cJ36_init 4 = .ok (.return_, 1) := by decide +kernel
theorem q129 : (Jvm.Cond.initialized "java/util/AbstractSet") ∈ lw_all := lw_g (lw_at lw_m1 57 rfl) rfl
theorem q2390 : (Jvm.Cond.instanceMethod ({ cls := "java/util/AbstractSet", name := "<init>", desc := "()V" } : Jvm.MethodName)) ∈ lw_all := lw_g (lw_at lw_m10 158 rfl) rfl
theorem q2391 : (Jvm.Cond.code ({ cls := "java/util/AbstractSet", name := "<init>", desc := "()V" } : Jvm.MethodName) prog_61_method_1_code (1 : Nat) (Option.none : Option Jvm.ClassFile.FieldType)) ∈ lw_all := lw_g (lw_at lw_m10 159 rfl) rfl
theorem q2392 : (Jvm.Cond.methodLink "java/util/AbstractSet" (1 : Nat) ({ cls := "java/util/AbstractCollection", name := "<init>", desc := "()V" } : Jvm.MethodName)) ∈ lw_all := lw_g (lw_at lw_m10 160 rfl) rfl
/-! java/util/HashSet -/
set_option maxRecDepth 100000
def RJ37 : String := "java/util/HashSet"
def TJ37 : u_T := fun k => match k with
  | _ => ("java/util/HashSet", "map", "Ljava/util/HashMap;", false)
def tyJ37 : Nat → FieldType := fun k => match k with
  | _ => .object "java/util/HashMap"
abbrev wsJ370 : List Cond := u_ws RJ37 TJ37 1
theorem nmJ37 : ∀ a, a < 1 → ∀ b, b < 1 → a ≠ b → (TJ37 a).2.1 ≠ (TJ37 b).2.1 := by decide +kernel
theorem tyJ37_ok : ∀ k, k < 1 → parseFieldDescriptor (TJ37 k).2.2.1 = some (tyJ37 k) := by decide +kernel
abbrev cJ37_init : ByteArray := prog_71_method_1_code
def yJ37_init : MethodName := ⟨RJ37, "<init>", "()V"⟩
def dkwJ37_init_0 : List UInt8 := [42, 183, 0, 1, 42, 187, 0, 7, 89, 183, 0, 9, 181, 0, 10, 177]
abbrev dktJ37_init_0 : List UInt8 := dkwJ37_init_0 ++ []
theorem dksJ37_init_0 : cJ37_init.data.toList.drop 0 = dktJ37_init_0 := by decide +kernel
theorem dJ37_init_0 : decode cJ37_init 0 = .ok (.aload_n 0, 1) := dk_42 (dk_at dksJ37_init_0 0 rfl rfl)
theorem dJ37_init_1 : decode cJ37_init 1 = .ok (.invokespecial 1, 3) := dk_183 0 1 (dk_at dksJ37_init_0 1 rfl rfl)
theorem dJ37_init_4 : decode cJ37_init 4 = .ok (.aload_n 0, 1) := dk_42 (dk_at dksJ37_init_0 4 rfl rfl)
theorem dJ37_init_5 : decode cJ37_init 5 = .ok (.new 7, 3) := dk_187 0 7 (dk_at dksJ37_init_0 5 rfl rfl)
theorem dJ37_init_8 : decode cJ37_init 8 = .ok (.dup, 1) := dk_89 (dk_at dksJ37_init_0 8 rfl rfl)
theorem dJ37_init_9 : decode cJ37_init 9 = .ok (.invokespecial 9, 3) := dk_183 0 9 (dk_at dksJ37_init_0 9 rfl rfl)
theorem dJ37_init_12 : decode cJ37_init 12 = .ok (.putfield 10, 3) := dk_181 0 10 (dk_at dksJ37_init_0 12 rfl rfl)
theorem dJ37_init_15 : decode cJ37_init 15 = .ok (.return_, 1) := dk_177 (dk_at dksJ37_init_0 15 rfl rfl)
abbrev cJ37_add : ByteArray := prog_71_method_10_code
def yJ37_add : MethodName := ⟨RJ37, "add", "(Ljava/lang/Object;)Z"⟩
def dkwJ37_add_0 : List UInt8 := [42, 180, 0, 10, 43, 178, 0, 64, 182, 0, 68, 199, 0, 7, 4, 167, 0, 4, 3, 172]
abbrev dktJ37_add_0 : List UInt8 := dkwJ37_add_0 ++ []
theorem dksJ37_add_0 : cJ37_add.data.toList.drop 0 = dktJ37_add_0 := by decide +kernel
theorem dJ37_add_0 : decode cJ37_add 0 = .ok (.aload_n 0, 1) := dk_42 (dk_at dksJ37_add_0 0 rfl rfl)
theorem dJ37_add_1 : decode cJ37_add 1 = .ok (.getfield 10, 3) := dk_180 0 10 (dk_at dksJ37_add_0 1 rfl rfl)
theorem dJ37_add_4 : decode cJ37_add 4 = .ok (.aload_n 1, 1) := dk_43 (dk_at dksJ37_add_0 4 rfl rfl)
theorem dJ37_add_5 : decode cJ37_add 5 = .ok (.getstatic 64, 3) := dk_178 0 64 (dk_at dksJ37_add_0 5 rfl rfl)
theorem dJ37_add_8 : decode cJ37_add 8 = .ok (.invokevirtual 68, 3) := dk_182 0 68 (dk_at dksJ37_add_0 8 rfl rfl)
theorem dJ37_add_11 : decode cJ37_add 11 = .ok (.ifnonnull 7, 3) := dk_199 0 7 (dk_at dksJ37_add_0 11 rfl rfl)
theorem dJ37_add_14 : decode cJ37_add 14 = .ok (.iconst 1, 1) := dk_4 (dk_at dksJ37_add_0 14 rfl rfl)
theorem dJ37_add_15 : decode cJ37_add 15 = .ok (.goto 4, 3) := dk_167 0 4 (dk_at dksJ37_add_0 15 rfl rfl)
theorem dJ37_add_18 : decode cJ37_add 18 = .ok (.iconst 0, 1) := dk_3 (dk_at dksJ37_add_0 18 rfl rfl)
theorem dJ37_add_19 : decode cJ37_add 19 = .ok (.ireturn, 1) := dk_172 (dk_at dksJ37_add_0 19 rfl rfl)
theorem q130 : (Jvm.Cond.initialized "java/util/HashSet") ∈ lw_all := lw_g (lw_at lw_m1 58 rfl) rfl
theorem q527 : (Jvm.Cond.selects "java/util/HashSet" ({ cls := "java/lang/Object", name := "getClass", desc := "()Ljava/lang/Class;" } : Jvm.MethodName) ({ cls := "java/lang/Object", name := "getClass", desc := "()Ljava/lang/Class;" } : Jvm.MethodName)) ∈ lw_all := lw_g (lw_at lw_m2 215 rfl) rfl
theorem q2385 : (Jvm.Cond.instantiable "java/util/HashSet" (1 : Nat)) ∈ lw_all := lw_g (lw_at lw_m10 153 rfl) rfl
theorem q2387 : (Jvm.Cond.instanceMethod ({ cls := "java/util/HashSet", name := "<init>", desc := "()V" } : Jvm.MethodName)) ∈ lw_all := lw_g (lw_at lw_m10 155 rfl) rfl
theorem q2388 : (Jvm.Cond.code ({ cls := "java/util/HashSet", name := "<init>", desc := "()V" } : Jvm.MethodName) prog_71_method_1_code (1 : Nat) (Option.none : Option Jvm.ClassFile.FieldType)) ∈ lw_all := lw_g (lw_at lw_m10 156 rfl) rfl
theorem q2389 : (Jvm.Cond.methodLink "java/util/HashSet" (1 : Nat) ({ cls := "java/util/AbstractSet", name := "<init>", desc := "()V" } : Jvm.MethodName)) ∈ lw_all := lw_g (lw_at lw_m10 157 rfl) rfl
theorem q2393 : (Jvm.Cond.classLink "java/util/HashSet" (7 : Nat) "java/util/HashMap") ∈ lw_all := lw_g (lw_at lw_m10 161 rfl) rfl
theorem q2394 : (Jvm.Cond.methodLink "java/util/HashSet" (9 : Nat) ({ cls := "java/util/HashMap", name := "<init>", desc := "()V" } : Jvm.MethodName)) ∈ lw_all := lw_g (lw_at lw_m10 162 rfl) rfl
theorem q2395 : (Jvm.Cond.fieldLink "java/util/HashSet" (10 : Nat) "java/util/HashSet" "map" "Ljava/util/HashMap;") ∈ lw_all := lw_g (lw_at lw_m10 163 rfl) rfl
theorem q2396 : (Jvm.Cond.lays "java/util/HashSet" "java/util/HashSet" "map" "Ljava/util/HashMap;") ∈ lw_all := lw_g (lw_at lw_m10 164 rfl) rfl
theorem q2397 : (Jvm.Cond.soleField "java/util/HashSet" "map") ∈ lw_all := lw_g (lw_at lw_m10 165 rfl) rfl
theorem q2398 : (Jvm.Cond.superclass "java/util/HashSet" "java/util/AbstractSet") ∈ lw_all := lw_g (lw_at lw_m10 166 rfl) rfl
theorem q2400 : (Jvm.Cond.instanceMethod ({ cls := "java/util/HashSet", name := "add", desc := "(Ljava/lang/Object;)Z" } : Jvm.MethodName)) ∈ lw_all := lw_g (lw_at lw_m10 168 rfl) rfl
theorem q2401 : (Jvm.Cond.selects "java/util/HashSet" ({ cls := "java/util/HashSet", name := "add", desc := "(Ljava/lang/Object;)Z" } : Jvm.MethodName) ({ cls := "java/util/HashSet", name := "add", desc := "(Ljava/lang/Object;)Z" } : Jvm.MethodName)) ∈ lw_all := lw_g (lw_at lw_m10 169 rfl) rfl
theorem q2402 : (Jvm.Cond.code ({ cls := "java/util/HashSet", name := "add", desc := "(Ljava/lang/Object;)Z" } : Jvm.MethodName) prog_71_method_10_code (2 : Nat) (Option.some Jvm.ClassFile.FieldType.boolean)) ∈ lw_all := lw_g (lw_at lw_m10 170 rfl) rfl
theorem q2403 : (Jvm.Cond.fieldLink "java/util/HashSet" (64 : Nat) "java/util/HashSet" "PRESENT" "Ljava/lang/Object;") ∈ lw_all := lw_g (lw_at lw_m10 171 rfl) rfl
theorem q2404 : (Jvm.Cond.laysStatic "java/util/HashSet" "PRESENT" "Ljava/lang/Object;") ∈ lw_tbl := lw_at lw_m10 172 rfl
theorem q2405 : (Jvm.Cond.methodLink "java/util/HashSet" (68 : Nat) ({ cls := "java/util/HashMap", name := "put", desc := "(Ljava/lang/Object;Ljava/lang/Object;)Ljava/lang/Object;" } : Jvm.MethodName)) ∈ lw_all := lw_g (lw_at lw_m10 173 rfl) rfl
theorem q3188 : (Jvm.Cond.castable "java/util/HashSet" "java/lang/Object") ∈ lw_tbl := lw_at lw_m13 236 rfl
theorem in_J37 : ∀ w ∈ wsJ370, w ∈ lw_all := lw_in wsJ370 [2396] (by decide +kernel) (by decide +kernel)
/-! java/lang/Object -/
set_option maxRecDepth 100000
def RJ38 : String := "java/lang/Object"
abbrev cJ38_init : ByteArray := object_method_1_code
def yJ38_init : MethodName := ⟨RJ38, "<init>", "()V"⟩
theorem dJ38_init_0 : decode cJ38_init 0 = .ok (.return_, 1) := by decide +kernel
abbrev cJ38_equals : ByteArray := object_method_4_code
def yJ38_equals : MethodName := ⟨RJ38, "equals", "(Ljava/lang/Object;)Z"⟩
def dkwJ38_equals_0 : List UInt8 := [42, 43, 166, 0, 7, 4, 167, 0, 4, 3, 172]
abbrev dktJ38_equals_0 : List UInt8 := dkwJ38_equals_0 ++ []
theorem dksJ38_equals_0 : cJ38_equals.data.toList.drop 0 = dktJ38_equals_0 := by decide +kernel
theorem dJ38_equals_0 : decode cJ38_equals 0 = .ok (.aload_n 0, 1) := dk_42 (dk_at dksJ38_equals_0 0 rfl rfl)
theorem dJ38_equals_1 : decode cJ38_equals 1 = .ok (.aload_n 1, 1) := dk_43 (dk_at dksJ38_equals_0 1 rfl rfl)
theorem dJ38_equals_2 : decode cJ38_equals 2 = .ok (.if_acmp .ne 7, 3) := dk_166 0 7 (dk_at dksJ38_equals_0 2 rfl rfl)
theorem dJ38_equals_5 : decode cJ38_equals 5 = .ok (.iconst 1, 1) := dk_4 (dk_at dksJ38_equals_0 5 rfl rfl)
theorem dJ38_equals_6 : decode cJ38_equals 6 = .ok (.goto 4, 3) := dk_167 0 4 (dk_at dksJ38_equals_0 6 rfl rfl)
theorem dJ38_equals_9 : decode cJ38_equals 9 = .ok (.iconst 0, 1) := dk_3 (dk_at dksJ38_equals_0 9 rfl rfl)
theorem dJ38_equals_10 : decode cJ38_equals 10 = .ok (.ireturn, 1) := dk_172 (dk_at dksJ38_equals_0 10 rfl rfl)
theorem q138 : (Jvm.Cond.instanceMethod ({ cls := "java/lang/Object", name := "<init>", desc := "()V" } : Jvm.MethodName)) ∈ lw_all := lw_g (lw_at lw_m1 66 rfl) rfl
theorem q139 : (Jvm.Cond.code ({ cls := "java/lang/Object", name := "<init>", desc := "()V" } : Jvm.MethodName) object_method_1_code (1 : Nat) (Option.none : Option Jvm.ClassFile.FieldType)) ∈ lw_all := lw_g (lw_at lw_m1 67 rfl) rfl
theorem q489 : (Jvm.Cond.instanceMethod ({ cls := "java/lang/Object", name := "getClass", desc := "()Ljava/lang/Class;" } : Jvm.MethodName)) ∈ lw_all := lw_g (lw_at lw_m2 177 rfl) rfl
theorem q490 : (Jvm.Cond.sameMethod "java/lang/Object" "java/lang/Object" "getClass" "()Ljava/lang/Class;") ∈ lw_all := lw_g (lw_at lw_m2 178 rfl) rfl
theorem q530 : (Jvm.Cond.native ({ cls := "java/lang/Object", name := "getClass", desc := "()Ljava/lang/Class;" } : Jvm.MethodName)) ∈ lw_all := lw_g (lw_at lw_m2 218 rfl) rfl
theorem q632 : (Jvm.Cond.native ({ cls := "java/lang/Object", name := "clone", desc := "()Ljava/lang/Object;" } : Jvm.MethodName)) ∈ lw_all := lw_g (lw_at lw_m3 80 rfl) rfl
theorem q633 : (Jvm.Cond.instanceMethod ({ cls := "java/lang/Object", name := "clone", desc := "()Ljava/lang/Object;" } : Jvm.MethodName)) ∈ lw_all := lw_g (lw_at lw_m3 81 rfl) rfl
theorem q1816 : (Jvm.Cond.declares ({ cls := "java/lang/Object", name := "hashCode", desc := "()I" } : Jvm.MethodName)) ∈ lw_tbl := lw_at lw_m8 64 rfl
theorem q1818 : (Jvm.Cond.instanceMethod ({ cls := "java/lang/Object", name := "hashCode", desc := "()I" } : Jvm.MethodName)) ∈ lw_all := lw_g (lw_at lw_m8 66 rfl) rfl
theorem q1819 : (Jvm.Cond.sameMethod "java/lang/Object" "java/lang/Object" "hashCode" "()I") ∈ lw_all := lw_g (lw_at lw_m8 67 rfl) rfl
theorem q1916 : (Jvm.Cond.native ({ cls := "java/lang/Object", name := "hashCode", desc := "()I" } : Jvm.MethodName)) ∈ lw_all := lw_g (lw_at lw_m8 164 rfl) rfl
theorem q1917 : (Jvm.Cond.declares ({ cls := "java/lang/Object", name := "equals", desc := "(Ljava/lang/Object;)Z" } : Jvm.MethodName)) ∈ lw_tbl := lw_at lw_m8 165 rfl
theorem q1919 : (Jvm.Cond.instanceMethod ({ cls := "java/lang/Object", name := "equals", desc := "(Ljava/lang/Object;)Z" } : Jvm.MethodName)) ∈ lw_all := lw_g (lw_at lw_m8 167 rfl) rfl
theorem q1920 : (Jvm.Cond.sameMethod "java/lang/Object" "java/lang/Object" "equals" "(Ljava/lang/Object;)Z") ∈ lw_all := lw_g (lw_at lw_m8 168 rfl) rfl
theorem q1961 : (Jvm.Cond.code ({ cls := "java/lang/Object", name := "equals", desc := "(Ljava/lang/Object;)Z" } : Jvm.MethodName) object_method_4_code (2 : Nat) (Option.some Jvm.ClassFile.FieldType.boolean)) ∈ lw_all := lw_g (lw_at lw_m8 209 rfl) rfl
theorem q3139 : (Jvm.Cond.initialized "java/lang/Object") ∈ lw_all := lw_g (lw_at lw_m13 187 rfl) rfl
theorem q3194 : (Jvm.Cond.declares ({ cls := "java/lang/Object", name := "getClass", desc := "()Ljava/lang/Class;" } : Jvm.MethodName)) ∈ lw_tbl := lw_at lw_m14 2 rfl
theorem q3207 : (Jvm.Cond.instantiable "java/lang/Object" (0 : Nat)) ∈ lw_all := lw_g (lw_at lw_m14 15 rfl) rfl
/-! java/lang/System$2 -/
set_option maxRecDepth 100000
def RJ39 : String := "java/lang/System$2"
abbrev cJ39_getUTF16Char : ByteArray := prog_53_method_45_code
def yJ39_getUTF16Char : MethodName := ⟨RJ39, "getUTF16Char", "([BI)C"⟩
def dkwJ39_getUTF16Char_0 : List UInt8 := [43, 28, 184, 0, 185, 172]
abbrev dktJ39_getUTF16Char_0 : List UInt8 := dkwJ39_getUTF16Char_0 ++ []
theorem dksJ39_getUTF16Char_0 : cJ39_getUTF16Char.data.toList.drop 0 = dktJ39_getUTF16Char_0 := by decide +kernel
theorem dJ39_getUTF16Char_0 : decode cJ39_getUTF16Char 0 = .ok (.aload_n 1, 1) := dk_43 (dk_at dksJ39_getUTF16Char_0 0 rfl rfl)
theorem dJ39_getUTF16Char_1 : decode cJ39_getUTF16Char 1 = .ok (.iload_n 2, 1) := dk_28 (dk_at dksJ39_getUTF16Char_0 1 rfl rfl)
theorem dJ39_getUTF16Char_2 : decode cJ39_getUTF16Char 2 = .ok (.invokestatic 185, 3) := dk_184 0 185 (dk_at dksJ39_getUTF16Char_0 2 rfl rfl)
theorem dJ39_getUTF16Char_5 : decode cJ39_getUTF16Char 5 = .ok (.ireturn, 1) := dk_172 (dk_at dksJ39_getUTF16Char_0 5 rfl rfl)
theorem q519 : (Jvm.Cond.selects "java/lang/System$2" ({ cls := "java/lang/Object", name := "getClass", desc := "()Ljava/lang/Class;" } : Jvm.MethodName) ({ cls := "java/lang/Object", name := "getClass", desc := "()Ljava/lang/Class;" } : Jvm.MethodName)) ∈ lw_all := lw_g (lw_at lw_m2 207 rfl) rfl
theorem q1877 : (Jvm.Cond.castable "java/lang/System$2" "jdk/internal/access/JavaLangAccess") ∈ lw_tbl := lw_at lw_m8 125 rfl
theorem q1878 : (Jvm.Cond.selects "java/lang/System$2" ({ cls := "jdk/internal/access/JavaLangAccess", name := "getUTF16Char", desc := "([BI)C" } : Jvm.MethodName) ({ cls := "java/lang/System$2", name := "getUTF16Char", desc := "([BI)C" } : Jvm.MethodName)) ∈ lw_all := lw_g (lw_at lw_m8 126 rfl) rfl
theorem q1879 : (Jvm.Cond.unhidden "java/lang/System$2" "getUTF16Char" "([BI)C") ∈ lw_tbl := lw_at lw_m8 127 rfl
theorem q1880 : (Jvm.Cond.instanceMethod ({ cls := "java/lang/System$2", name := "getUTF16Char", desc := "([BI)C" } : Jvm.MethodName)) ∈ lw_all := lw_g (lw_at lw_m8 128 rfl) rfl
theorem q1881 : (Jvm.Cond.publicMethod ({ cls := "java/lang/System$2", name := "getUTF16Char", desc := "([BI)C" } : Jvm.MethodName)) ∈ lw_tbl := lw_at lw_m8 129 rfl
theorem q1882 : (Jvm.Cond.code ({ cls := "java/lang/System$2", name := "getUTF16Char", desc := "([BI)C" } : Jvm.MethodName) prog_53_method_45_code (3 : Nat) (Option.some Jvm.ClassFile.FieldType.char)) ∈ lw_all := lw_g (lw_at lw_m8 130 rfl) rfl
theorem q1883 : (Jvm.Cond.methodLink "java/lang/System$2" (185 : Nat) ({ cls := "java/lang/StringUTF16", name := "getChar", desc := "([BI)C" } : Jvm.MethodName)) ∈ lw_all := lw_g (lw_at lw_m8 131 rfl) rfl
theorem q1913 : (Jvm.Cond.selects "java/lang/System$2" ({ cls := "java/lang/Object", name := "hashCode", desc := "()I" } : Jvm.MethodName) ({ cls := "java/lang/Object", name := "hashCode", desc := "()I" } : Jvm.MethodName)) ∈ lw_all := lw_g (lw_at lw_m8 161 rfl) rfl
theorem q1958 : (Jvm.Cond.selects "java/lang/System$2" ({ cls := "java/lang/Object", name := "equals", desc := "(Ljava/lang/Object;)Z" } : Jvm.MethodName) ({ cls := "java/lang/Object", name := "equals", desc := "(Ljava/lang/Object;)Z" } : Jvm.MethodName)) ∈ lw_all := lw_g (lw_at lw_m8 206 rfl) rfl
theorem q3184 : (Jvm.Cond.castable "java/lang/System$2" "java/lang/Object") ∈ lw_tbl := lw_at lw_m13 232 rfl
theorem q1111 : (Jvm.Cond.interfaceMethod "TranslationMemory$Measure" "TranslationMemory$Measure" "of" "(LTranslationMemory$Pair;)I") ∈ lw_tbl := lw_at lw_m5 79 rfl
set_option maxRecDepth 100000
theorem q1112 : (Jvm.Cond.declares ({ cls := "TranslationMemory$Measure", name := "of", desc := "(LTranslationMemory$Pair;)I" } : Jvm.MethodName)) ∈ lw_tbl := lw_at lw_m5 80 rfl
theorem q631 : (Jvm.Cond.sameMethod "[B" "java/lang/Object" "clone" "()Ljava/lang/Object;") ∈ lw_all := lw_g (lw_at lw_m3 79 rfl) rfl
set_option maxRecDepth 100000
theorem q634 : (Jvm.Cond.selects "[B" ({ cls := "[B", name := "clone", desc := "()Ljava/lang/Object;" } : Jvm.MethodName) ({ cls := "java/lang/Object", name := "clone", desc := "()Ljava/lang/Object;" } : Jvm.MethodName)) ∈ lw_all := lw_g (lw_at lw_m3 82 rfl) rfl
theorem q635 : (Jvm.Cond.castable "[B" "java/lang/Cloneable") ∈ lw_tbl := lw_at lw_m3 83 rfl
theorem q3198 : (Jvm.Cond.castable "[B" "java/lang/Object") ∈ lw_tbl := lw_at lw_m14 6 rfl
theorem q3202 : (Jvm.Cond.castable "[C" "java/lang/Object") ∈ lw_tbl := lw_at lw_m14 10 rfl
set_option maxRecDepth 100000
theorem q3203 : (Jvm.Cond.castable "[D" "java/lang/Object") ∈ lw_tbl := lw_at lw_m14 11 rfl
set_option maxRecDepth 100000
theorem q3196 : (Jvm.Cond.castable "[I" "java/lang/Object") ∈ lw_tbl := lw_at lw_m14 4 rfl
set_option maxRecDepth 100000
theorem q3201 : (Jvm.Cond.castable "[J" "java/lang/Object") ∈ lw_tbl := lw_at lw_m14 9 rfl
set_option maxRecDepth 100000
theorem q3192 : (Jvm.Cond.sameMethod "[Ljava/lang/Object;" "java/lang/Object" "getClass" "()Ljava/lang/Class;") ∈ lw_all := lw_g (lw_at lw_m14 0 rfl) rfl
set_option maxRecDepth 100000
theorem q3193 : (Jvm.Cond.selects "[Ljava/lang/Object;" ({ cls := "java/lang/Object", name := "getClass", desc := "()Ljava/lang/Class;" } : Jvm.MethodName) ({ cls := "java/lang/Object", name := "getClass", desc := "()Ljava/lang/Class;" } : Jvm.MethodName)) ∈ lw_all := lw_g (lw_at lw_m14 1 rfl) rfl
theorem q3197 : (Jvm.Cond.castable "[Ljava/lang/Object;" "java/lang/Object") ∈ lw_tbl := lw_at lw_m14 5 rfl
theorem q3200 : (Jvm.Cond.castable "[Ljava/util/HashMap$Node;" "java/lang/Object") ∈ lw_tbl := lw_at lw_m14 8 rfl
set_option maxRecDepth 100000
theorem q3199 : (Jvm.Cond.castable "[[I" "java/lang/Object") ∈ lw_tbl := lw_at lw_m14 7 rfl
set_option maxRecDepth 100000
theorem q1987 : (Jvm.Cond.interfaceMethod "java/lang/Comparable" "java/lang/Comparable" "compareTo" "(Ljava/lang/Object;)I") ∈ lw_tbl := lw_at lw_m8 235 rfl
set_option maxRecDepth 100000
theorem q1988 : (Jvm.Cond.declares ({ cls := "java/lang/Comparable", name := "compareTo", desc := "(Ljava/lang/Object;)I" } : Jvm.MethodName)) ∈ lw_tbl := lw_at lw_m8 236 rfl
theorem q125 : (Jvm.Cond.initialized "java/lang/Integer$IntegerCache") ∈ lw_all := lw_g (lw_at lw_m1 53 rfl) rfl
set_option maxRecDepth 100000
theorem q2224 : (Jvm.Cond.laysStatic "java/lang/Integer$IntegerCache" "high" "I") ∈ lw_tbl := lw_at lw_m9 232 rfl
theorem q2226 : (Jvm.Cond.laysStatic "java/lang/Integer$IntegerCache" "cache" "[Ljava/lang/Integer;") ∈ lw_tbl := lw_at lw_m9 234 rfl
theorem q92 : (Jvm.Cond.initialized "java/lang/System") ∈ lw_all := lw_g (lw_at lw_m1 20 rfl) rfl
set_option maxRecDepth 100000
theorem q540 : (Jvm.Cond.static ({ cls := "java/lang/System", name := "arraycopy", desc := "(Ljava/lang/Object;ILjava/lang/Object;II)V" } : Jvm.MethodName)) ∈ lw_all := lw_g (lw_at lw_m2 228 rfl) rfl
theorem q541 : (Jvm.Cond.native ({ cls := "java/lang/System", name := "arraycopy", desc := "(Ljava/lang/Object;ILjava/lang/Object;II)V" } : Jvm.MethodName)) ∈ lw_all := lw_g (lw_at lw_m2 229 rfl) rfl
theorem q1830 : (Jvm.Cond.static ({ cls := "java/lang/System", name := "identityHashCode", desc := "(Ljava/lang/Object;)I" } : Jvm.MethodName)) ∈ lw_all := lw_g (lw_at lw_m8 78 rfl) rfl
theorem q1831 : (Jvm.Cond.native ({ cls := "java/lang/System", name := "identityHashCode", desc := "(Ljava/lang/Object;)I" } : Jvm.MethodName)) ∈ lw_all := lw_g (lw_at lw_m8 79 rfl) rfl
theorem q328 : (Jvm.Cond.interfaceMethod "java/util/Iterator" "java/util/Iterator" "hasNext" "()Z") ∈ lw_tbl := lw_at lw_m2 16 rfl
set_option maxRecDepth 100000
theorem q329 : (Jvm.Cond.declares ({ cls := "java/util/Iterator", name := "hasNext", desc := "()Z" } : Jvm.MethodName)) ∈ lw_tbl := lw_at lw_m2 17 rfl
theorem q338 : (Jvm.Cond.interfaceMethod "java/util/Iterator" "java/util/Iterator" "next" "()Ljava/lang/Object;") ∈ lw_tbl := lw_at lw_m2 26 rfl
theorem q339 : (Jvm.Cond.declares ({ cls := "java/util/Iterator", name := "next", desc := "()Ljava/lang/Object;" } : Jvm.MethodName)) ∈ lw_tbl := lw_at lw_m2 27 rfl
theorem q299 : (Jvm.Cond.interfaceMethod "java/util/List" "java/util/List" "iterator" "()Ljava/util/Iterator;") ∈ lw_tbl := lw_at lw_m1 227 rfl
set_option maxRecDepth 100000
theorem q300 : (Jvm.Cond.declares ({ cls := "java/util/List", name := "iterator", desc := "()Ljava/util/Iterator;" } : Jvm.MethodName)) ∈ lw_tbl := lw_at lw_m1 228 rfl
theorem q456 : (Jvm.Cond.interfaceMethod "java/util/List" "java/util/List" "add" "(Ljava/lang/Object;)Z") ∈ lw_tbl := lw_at lw_m2 144 rfl
theorem q457 : (Jvm.Cond.declares ({ cls := "java/util/List", name := "add", desc := "(Ljava/lang/Object;)Z" } : Jvm.MethodName)) ∈ lw_tbl := lw_at lw_m2 145 rfl
theorem q548 : (Jvm.Cond.interfaceMethod "java/util/List" "java/util/List" "size" "()I") ∈ lw_tbl := lw_at lw_m2 236 rfl
theorem q549 : (Jvm.Cond.declares ({ cls := "java/util/List", name := "size", desc := "()I" } : Jvm.MethodName)) ∈ lw_tbl := lw_at lw_m2 237 rfl
theorem q1053 : (Jvm.Cond.interfaceMethod "java/util/List" "java/util/List" "isEmpty" "()Z") ∈ lw_tbl := lw_at lw_m5 21 rfl
theorem q1054 : (Jvm.Cond.declares ({ cls := "java/util/List", name := "isEmpty", desc := "()Z" } : Jvm.MethodName)) ∈ lw_tbl := lw_at lw_m5 22 rfl
theorem q1141 : (Jvm.Cond.interfaceMethod "java/util/List" "java/util/List" "get" "(I)Ljava/lang/Object;") ∈ lw_tbl := lw_at lw_m5 109 rfl
theorem q1142 : (Jvm.Cond.declares ({ cls := "java/util/List", name := "get", desc := "(I)Ljava/lang/Object;" } : Jvm.MethodName)) ∈ lw_tbl := lw_at lw_m5 110 rfl
theorem q1303 : (Jvm.Cond.interfaceMethod "java/util/List" "java/util/List" "remove" "(I)Ljava/lang/Object;") ∈ lw_tbl := lw_at lw_m6 31 rfl
theorem q1304 : (Jvm.Cond.declares ({ cls := "java/util/List", name := "remove", desc := "(I)Ljava/lang/Object;" } : Jvm.MethodName)) ∈ lw_tbl := lw_at lw_m6 32 rfl
theorem q2519 : (Jvm.Cond.interfaceMethod "java/util/List" "java/util/List" "add" "(ILjava/lang/Object;)V") ∈ lw_tbl := lw_at lw_m11 47 rfl
theorem q2520 : (Jvm.Cond.declares ({ cls := "java/util/List", name := "add", desc := "(ILjava/lang/Object;)V" } : Jvm.MethodName)) ∈ lw_tbl := lw_at lw_m11 48 rfl
theorem q1801 : (Jvm.Cond.interfaceMethod "java/util/Map" "java/util/Map" "get" "(Ljava/lang/Object;)Ljava/lang/Object;") ∈ lw_tbl := lw_at lw_m8 49 rfl
set_option maxRecDepth 100000
theorem q1802 : (Jvm.Cond.declares ({ cls := "java/util/Map", name := "get", desc := "(Ljava/lang/Object;)Ljava/lang/Object;" } : Jvm.MethodName)) ∈ lw_tbl := lw_at lw_m8 50 rfl
theorem q2241 : (Jvm.Cond.interfaceMethod "java/util/Map" "java/util/Map" "put" "(Ljava/lang/Object;Ljava/lang/Object;)Ljava/lang/Object;") ∈ lw_tbl := lw_at lw_m10 9 rfl
theorem q2242 : (Jvm.Cond.declares ({ cls := "java/util/Map", name := "put", desc := "(Ljava/lang/Object;Ljava/lang/Object;)Ljava/lang/Object;" } : Jvm.MethodName)) ∈ lw_tbl := lw_at lw_m10 10 rfl
theorem q2607 : (Jvm.Cond.interfaceMethod "java/util/Map" "java/util/Map" "size" "()I") ∈ lw_tbl := lw_at lw_m11 135 rfl
theorem q2608 : (Jvm.Cond.declares ({ cls := "java/util/Map", name := "size", desc := "()I" } : Jvm.MethodName)) ∈ lw_tbl := lw_at lw_m11 136 rfl
theorem q1875 : (Jvm.Cond.interfaceMethod "jdk/internal/access/JavaLangAccess" "jdk/internal/access/JavaLangAccess" "getUTF16Char" "([BI)C") ∈ lw_tbl := lw_at lw_m8 123 rfl
set_option maxRecDepth 100000
theorem q1876 : (Jvm.Cond.declares ({ cls := "jdk/internal/access/JavaLangAccess", name := "getUTF16Char", desc := "([BI)C" } : Jvm.MethodName)) ∈ lw_tbl := lw_at lw_m8 124 rfl
theorem q123 : (Jvm.Cond.initialized "jdk/internal/misc/UnsafeConstants") ∈ lw_all := lw_g (lw_at lw_m1 51 rfl) rfl
set_option maxRecDepth 100000
theorem q2097 : (Jvm.Cond.laysStatic "jdk/internal/misc/UnsafeConstants" "BIG_ENDIAN" "Z") ∈ lw_tbl := lw_at lw_m9 105 rfl
theorem q200 : (Jvm.Cond.arrayClass Jvm.ClassFile.FieldType.int) ∈ lw_all := lw_g (lw_at lw_m1 128 rfl) rfl
set_option maxRecDepth 100000
theorem q208 : (Jvm.Cond.arrayOver (Jvm.ClassFile.FieldType.object "java/lang/Object")) ∈ lw_tbl := lw_at lw_m1 136 rfl
theorem q251 : (Jvm.Cond.arrayClass Jvm.ClassFile.FieldType.byte) ∈ lw_all := lw_g (lw_at lw_m1 179 rfl) rfl
theorem q1527 : (Jvm.Cond.arrayOver (Jvm.ClassFile.FieldType.array Jvm.ClassFile.FieldType.int)) ∈ lw_tbl := lw_at lw_m7 15 rfl
theorem q2260 : (Jvm.Cond.arrayOver (Jvm.ClassFile.FieldType.object "java/util/HashMap$Node")) ∈ lw_tbl := lw_at lw_m10 28 rfl
theorem q2778 : (Jvm.Cond.arrayClass Jvm.ClassFile.FieldType.long) ∈ lw_all := lw_g (lw_at lw_m12 66 rfl) rfl
theorem q2779 : (Jvm.Cond.arrayClass Jvm.ClassFile.FieldType.char) ∈ lw_all := lw_g (lw_at lw_m12 67 rfl) rfl
theorem q3121 : (Jvm.Cond.arrayClass Jvm.ClassFile.FieldType.double) ∈ lw_all := lw_g (lw_at lw_m13 169 rfl) rfl
theorem q3204 : (Jvm.Cond.arrayClass Jvm.ClassFile.FieldType.short) ∈ lw_all := lw_g (lw_at lw_m14 12 rfl) rfl
