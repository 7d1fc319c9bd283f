/-! java/util/AbstractCollection -/
set_option maxRecDepth 100000
def RJ0 : String := "java/util/AbstractCollection"
abbrev cJ0_init : ByteArray := prog_27_method_1_code
def yJ0_init : MethodName := ⟨RJ0, "<init>", "()V"⟩
theorem dJ0_init_0 : decode cJ0_init 0 = .ok (.aload_n 0, 1) := by decide +kernel
theorem dJ0_init_1 : decode cJ0_init 1 = .ok (.invokespecial 1, 3) := by decide +kernel
theorem dJ0_init_4 : decode cJ0_init 4 = .ok (.return_, 1) := by decide +kernel
theorem q52 : (Jvm.Cond.initialized "java/util/AbstractCollection") ∈ lw_all := lw_g (lw_at lw_m1 4 rfl) rfl
theorem q151 : (Jvm.Cond.instanceMethod ({ cls := "java/util/AbstractCollection", name := "<init>", desc := "()V" } : Jvm.MethodName)) ∈ lw_all := lw_g (lw_at lw_m1 103 rfl) rfl
theorem q152 : (Jvm.Cond.code ({ cls := "java/util/AbstractCollection", name := "<init>", desc := "()V" } : Jvm.MethodName) prog_27_method_1_code (1 : Nat) (Option.none : Option Jvm.ClassFile.FieldType)) ∈ lw_all := lw_g (lw_at lw_m1 104 rfl) rfl
theorem q153 : (Jvm.Cond.methodLink "java/util/AbstractCollection" (1 : Nat) ({ cls := "java/lang/Object", name := "<init>", desc := "()V" } : Jvm.MethodName)) ∈ lw_all := lw_g (lw_at lw_m1 105 rfl) rfl
/-! java/util/AbstractList -/
set_option maxRecDepth 100000
def RJ1 : String := "java/util/AbstractList"
abbrev cJ1_init : ByteArray := prog_28_method_1_code
def yJ1_init : MethodName := ⟨RJ1, "<init>", "()V"⟩
def dkwJ1_init_0 : List UInt8 := [42, 183, 0, 1, 42, 3, 181, 0, 7, 177]
abbrev dktJ1_init_0 : List UInt8 := dkwJ1_init_0 ++ []
theorem dksJ1_init_0 : cJ1_init.data.toList.drop 0 = dktJ1_init_0 := by decide +kernel
theorem dJ1_init_0 : decode cJ1_init 0 = .ok (.aload_n 0, 1) := dk_42 (dk_at dksJ1_init_0 0 rfl rfl)
theorem dJ1_init_1 : decode cJ1_init 1 = .ok (.invokespecial 1, 3) := dk_183 0 1 (dk_at dksJ1_init_0 1 rfl rfl)
theorem dJ1_init_4 : decode cJ1_init 4 = .ok (.aload_n 0, 1) := dk_42 (dk_at dksJ1_init_0 4 rfl rfl)
theorem dJ1_init_5 : decode cJ1_init 5 = .ok (.iconst 0, 1) := dk_3 (dk_at dksJ1_init_0 5 rfl rfl)
theorem dJ1_init_6 : decode cJ1_init 6 = .ok (.putfield 7, 3) := dk_181 0 7 (dk_at dksJ1_init_0 6 rfl rfl)
theorem dJ1_init_9 : decode cJ1_init 9 = .ok (.return_, 1) := dk_177 (dk_at dksJ1_init_0 9 rfl rfl)
theorem q53 : (Jvm.Cond.initialized "java/util/AbstractList") ∈ lw_all := lw_g (lw_at lw_m1 5 rfl) rfl
theorem q148 : (Jvm.Cond.instanceMethod ({ cls := "java/util/AbstractList", name := "<init>", desc := "()V" } : Jvm.MethodName)) ∈ lw_all := lw_g (lw_at lw_m1 100 rfl) rfl
theorem q149 : (Jvm.Cond.code ({ cls := "java/util/AbstractList", name := "<init>", desc := "()V" } : Jvm.MethodName) prog_28_method_1_code (1 : Nat) (Option.none : Option Jvm.ClassFile.FieldType)) ∈ lw_all := lw_g (lw_at lw_m1 101 rfl) rfl
theorem q150 : (Jvm.Cond.methodLink "java/util/AbstractList" (1 : Nat) ({ cls := "java/util/AbstractCollection", name := "<init>", desc := "()V" } : Jvm.MethodName)) ∈ lw_all := lw_g (lw_at lw_m1 102 rfl) rfl
theorem q158 : (Jvm.Cond.fieldLink "java/util/AbstractList" (7 : Nat) "java/util/AbstractList" "modCount" "I") ∈ lw_all := lw_g (lw_at lw_m1 110 rfl) rfl
theorem q166 : (Jvm.Cond.soleField "java/util/AbstractList" "modCount") ∈ lw_all := lw_g (lw_at lw_m1 118 rfl) rfl
/-! java/util/ArrayList -/
set_option maxRecDepth 100000
def RJ2 : String := "java/util/ArrayList"
def TJ2 : u_T := fun k => match k with
  | 0 => ("java/util/AbstractList", "modCount", "I", false)
  | 1 => ("java/util/ArrayList", "elementData", "[Ljava/lang/Object;", false)
  | _ => ("java/util/ArrayList", "size", "I", false)
def tyJ2 : Nat → FieldType := fun k => match k with
  | 0 => .int
  | 1 => .array (.object "java/lang/Object")
  | _ => .int
abbrev wsJ20 : List Cond := u_ws RJ2 TJ2 3
theorem nmJ2 : ∀ a, a < 3 → ∀ b, b < 3 → a ≠ b → (TJ2 a).2.1 ≠ (TJ2 b).2.1 := by decide +kernel
theorem tyJ2_ok : ∀ k, k < 3 → parseFieldDescriptor (TJ2 k).2.2.1 = some (tyJ2 k) := by decide +kernel
abbrev cJ2_init : ByteArray := prog_29_method_2_code
def yJ2_init : MethodName := ⟨RJ2, "<init>", "()V"⟩
def dkwJ2_init_0 : List UInt8 := [42, 183, 0, 1, 42, 178, 0, 39, 181, 0, 9, 177]
abbrev dktJ2_init_0 : List UInt8 := dkwJ2_init_0 ++ []
theorem dksJ2_init_0 : cJ2_init.data.toList.drop 0 = dktJ2_init_0 := by decide +kernel
theorem dJ2_init_0 : decode cJ2_init 0 = .ok (.aload_n 0, 1) := dk_42 (dk_at dksJ2_init_0 0 rfl rfl)
theorem dJ2_init_1 : decode cJ2_init 1 = .ok (.invokespecial 1, 3) := dk_183 0 1 (dk_at dksJ2_init_0 1 rfl rfl)
theorem dJ2_init_4 : decode cJ2_init 4 = .ok (.aload_n 0, 1) := dk_42 (dk_at dksJ2_init_0 4 rfl rfl)
theorem dJ2_init_5 : decode cJ2_init 5 = .ok (.getstatic 39, 3) := dk_178 0 39 (dk_at dksJ2_init_0 5 rfl rfl)
theorem dJ2_init_8 : decode cJ2_init 8 = .ok (.putfield 9, 3) := dk_181 0 9 (dk_at dksJ2_init_0 8 rfl rfl)
theorem dJ2_init_11 : decode cJ2_init 11 = .ok (.return_, 1) := dk_177 (dk_at dksJ2_init_0 11 rfl rfl)
abbrev cJ2_size : ByteArray := prog_29_method_8_code
def yJ2_size : MethodName := ⟨RJ2, "size", "()I"⟩
theorem dJ2_size_0 : decode cJ2_size 0 = .ok (.aload_n 0, 1) := by decide +kernel
theorem dJ2_size_1 : decode cJ2_size 1 = .ok (.getfield 48, 3) := by decide +kernel
theorem dJ2_size_4 : decode cJ2_size 4 = .ok (.ireturn, 1) := by decide +kernel
abbrev cJ2_get : ByteArray := prog_29_method_20_code
def yJ2_get : MethodName := ⟨RJ2, "get", "(I)Ljava/lang/Object;"⟩
def dkwJ2_get_0 : List UInt8 := [27, 42, 180, 0, 48, 184, 0, 118, 87, 42, 27, 182, 0, 123, 176]
abbrev dktJ2_get_0 : List UInt8 := dkwJ2_get_0 ++ []
theorem dksJ2_get_0 : cJ2_get.data.toList.drop 0 = dktJ2_get_0 := by decide +kernel
theorem dJ2_get_0 : decode cJ2_get 0 = .ok (.iload_n 1, 1) := dk_27 (dk_at dksJ2_get_0 0 rfl rfl)
theorem dJ2_get_1 : decode cJ2_get 1 = .ok (.aload_n 0, 1) := dk_42 (dk_at dksJ2_get_0 1 rfl rfl)
theorem dJ2_get_2 : decode cJ2_get 2 = .ok (.getfield 48, 3) := dk_180 0 48 (dk_at dksJ2_get_0 2 rfl rfl)
theorem dJ2_get_5 : decode cJ2_get 5 = .ok (.invokestatic 118, 3) := dk_184 0 118 (dk_at dksJ2_get_0 5 rfl rfl)
theorem dJ2_get_8 : decode cJ2_get 8 = .ok (.pop, 1) := dk_87 (dk_at dksJ2_get_0 8 rfl rfl)
theorem dJ2_get_9 : decode cJ2_get 9 = .ok (.aload_n 0, 1) := dk_42 (dk_at dksJ2_get_0 9 rfl rfl)
theorem dJ2_get_10 : decode cJ2_get 10 = .ok (.iload_n 1, 1) := dk_27 (dk_at dksJ2_get_0 10 rfl rfl)
theorem dJ2_get_11 : decode cJ2_get 11 = .ok (.invokevirtual 123, 3) := dk_182 0 123 (dk_at dksJ2_get_0 11 rfl rfl)
theorem dJ2_get_14 : decode cJ2_get 14 = .ok (.areturn, 1) := dk_176 (dk_at dksJ2_get_0 14 rfl rfl)
abbrev cJ2_elementData : ByteArray := prog_29_method_18_code
def yJ2_elementData : MethodName := ⟨RJ2, "elementData", "(I)Ljava/lang/Object;"⟩
def dkwJ2_elementData_0 : List UInt8 := [42, 180, 0, 9, 27, 50, 176]
abbrev dktJ2_elementData_0 : List UInt8 := dkwJ2_elementData_0 ++ []
theorem dksJ2_elementData_0 : cJ2_elementData.data.toList.drop 0 = dktJ2_elementData_0 := by decide +kernel
theorem dJ2_elementData_0 : decode cJ2_elementData 0 = .ok (.aload_n 0, 1) := dk_42 (dk_at dksJ2_elementData_0 0 rfl rfl)
theorem dJ2_elementData_1 : decode cJ2_elementData 1 = .ok (.getfield 9, 3) := dk_180 0 9 (dk_at dksJ2_elementData_0 1 rfl rfl)
theorem dJ2_elementData_4 : decode cJ2_elementData 4 = .ok (.iload_n 1, 1) := dk_27 (dk_at dksJ2_elementData_0 4 rfl rfl)
theorem dJ2_elementData_5 : decode cJ2_elementData 5 = .ok (.aaload, 1) := dk_50 (dk_at dksJ2_elementData_0 5 rfl rfl)
theorem dJ2_elementData_6 : decode cJ2_elementData 6 = .ok (.areturn, 1) := dk_176 (dk_at dksJ2_elementData_0 6 rfl rfl)
abbrev cJ2_add : ByteArray := prog_29_method_25_code
def yJ2_add : MethodName := ⟨RJ2, "add", "(Ljava/lang/Object;)Z"⟩
def dkwJ2_add_1 : List UInt8 := [172]
abbrev dktJ2_add_1 : List UInt8 := dkwJ2_add_1 ++ []
def dkwJ2_add_0 : List UInt8 := [42, 89, 180, 0, 63, 4, 96, 181, 0, 63, 42, 43, 42, 180, 0, 9, 42, 180, 0, 48, 182, 0, 131, 4]
abbrev dktJ2_add_0 : List UInt8 := dkwJ2_add_0 ++ dktJ2_add_1
theorem dksJ2_add_0 : cJ2_add.data.toList.drop 0 = dktJ2_add_0 := by decide +kernel
theorem dksJ2_add_1 : cJ2_add.data.toList.drop 24 = dktJ2_add_1 := dk_seg dksJ2_add_0 24 rfl rfl
theorem dJ2_add_0 : decode cJ2_add 0 = .ok (.aload_n 0, 1) := dk_42 (dk_at dksJ2_add_0 0 rfl rfl)
theorem dJ2_add_1 : decode cJ2_add 1 = .ok (.dup, 1) := dk_89 (dk_at dksJ2_add_0 1 rfl rfl)
theorem dJ2_add_2 : decode cJ2_add 2 = .ok (.getfield 63, 3) := dk_180 0 63 (dk_at dksJ2_add_0 2 rfl rfl)
theorem dJ2_add_5 : decode cJ2_add 5 = .ok (.iconst 1, 1) := dk_4 (dk_at dksJ2_add_0 5 rfl rfl)
theorem dJ2_add_6 : decode cJ2_add 6 = .ok (.iadd, 1) := dk_96 (dk_at dksJ2_add_0 6 rfl rfl)
theorem dJ2_add_7 : decode cJ2_add 7 = .ok (.putfield 63, 3) := dk_181 0 63 (dk_at dksJ2_add_0 7 rfl rfl)
theorem dJ2_add_10 : decode cJ2_add 10 = .ok (.aload_n 0, 1) := dk_42 (dk_at dksJ2_add_0 10 rfl rfl)
theorem dJ2_add_11 : decode cJ2_add 11 = .ok (.aload_n 1, 1) := dk_43 (dk_at dksJ2_add_0 11 rfl rfl)
theorem dJ2_add_12 : decode cJ2_add 12 = .ok (.aload_n 0, 1) := dk_42 (dk_at dksJ2_add_0 12 rfl rfl)
theorem dJ2_add_13 : decode cJ2_add 13 = .ok (.getfield 9, 3) := dk_180 0 9 (dk_at dksJ2_add_0 13 rfl rfl)
theorem dJ2_add_16 : decode cJ2_add 16 = .ok (.aload_n 0, 1) := dk_42 (dk_at dksJ2_add_0 16 rfl rfl)
theorem dJ2_add_17 : decode cJ2_add 17 = .ok (.getfield 48, 3) := dk_180 0 48 (dk_at dksJ2_add_0 17 rfl rfl)
theorem dJ2_add_20 : decode cJ2_add 20 = .ok (.invokevirtual 131, 3) := dk_182 0 131 (dk_at dksJ2_add_0 20 rfl rfl)
theorem dJ2_add_23 : decode cJ2_add 23 = .ok (.iconst 1, 1) := dk_4 (dk_at dksJ2_add_0 23 rfl rfl)
theorem dJ2_add_24 : decode cJ2_add 24 = .ok (.ireturn, 1) := dk_172 (dk_at dksJ2_add_1 0 rfl rfl)
abbrev cJ2_add_2 : ByteArray := prog_29_method_24_code
def yJ2_add_2 : MethodName := ⟨RJ2, "add", "(Ljava/lang/Object;[Ljava/lang/Object;I)V"⟩
def dkwJ2_add_2_0 : List UInt8 := [29, 44, 190, 160, 0, 8, 42, 182, 0, 129, 77, 44, 29, 43, 83, 42, 29, 4, 96, 181, 0, 48, 177]
abbrev dktJ2_add_2_0 : List UInt8 := dkwJ2_add_2_0 ++ []
theorem dksJ2_add_2_0 : cJ2_add_2.data.toList.drop 0 = dktJ2_add_2_0 := by decide +kernel
theorem dJ2_add_2_0 : decode cJ2_add_2 0 = .ok (.iload_n 3, 1) := dk_29 (dk_at dksJ2_add_2_0 0 rfl rfl)
theorem dJ2_add_2_1 : decode cJ2_add_2 1 = .ok (.aload_n 2, 1) := dk_44 (dk_at dksJ2_add_2_0 1 rfl rfl)
theorem dJ2_add_2_2 : decode cJ2_add_2 2 = .ok (.arraylength, 1) := dk_190 (dk_at dksJ2_add_2_0 2 rfl rfl)
theorem dJ2_add_2_3 : decode cJ2_add_2 3 = .ok (.if_icmp .ne 8, 3) := dk_160 0 8 (dk_at dksJ2_add_2_0 3 rfl rfl)
theorem dJ2_add_2_6 : decode cJ2_add_2 6 = .ok (.aload_n 0, 1) := dk_42 (dk_at dksJ2_add_2_0 6 rfl rfl)
theorem dJ2_add_2_7 : decode cJ2_add_2 7 = .ok (.invokevirtual 129, 3) := dk_182 0 129 (dk_at dksJ2_add_2_0 7 rfl rfl)
theorem dJ2_add_2_10 : decode cJ2_add_2 10 = .ok (.astore_n 2, 1) := dk_77 (dk_at dksJ2_add_2_0 10 rfl rfl)
theorem dJ2_add_2_11 : decode cJ2_add_2 11 = .ok (.aload_n 2, 1) := dk_44 (dk_at dksJ2_add_2_0 11 rfl rfl)
theorem dJ2_add_2_12 : decode cJ2_add_2 12 = .ok (.iload_n 3, 1) := dk_29 (dk_at dksJ2_add_2_0 12 rfl rfl)
theorem dJ2_add_2_13 : decode cJ2_add_2 13 = .ok (.aload_n 1, 1) := dk_43 (dk_at dksJ2_add_2_0 13 rfl rfl)
theorem dJ2_add_2_14 : decode cJ2_add_2 14 = .ok (.aastore, 1) := dk_83 (dk_at dksJ2_add_2_0 14 rfl rfl)
theorem dJ2_add_2_15 : decode cJ2_add_2 15 = .ok (.aload_n 0, 1) := dk_42 (dk_at dksJ2_add_2_0 15 rfl rfl)
theorem dJ2_add_2_16 : decode cJ2_add_2 16 = .ok (.iload_n 3, 1) := dk_29 (dk_at dksJ2_add_2_0 16 rfl rfl)
theorem dJ2_add_2_17 : decode cJ2_add_2 17 = .ok (.iconst 1, 1) := dk_4 (dk_at dksJ2_add_2_0 17 rfl rfl)
theorem dJ2_add_2_18 : decode cJ2_add_2 18 = .ok (.iadd, 1) := dk_96 (dk_at dksJ2_add_2_0 18 rfl rfl)
theorem dJ2_add_2_19 : decode cJ2_add_2 19 = .ok (.putfield 48, 3) := dk_181 0 48 (dk_at dksJ2_add_2_0 19 rfl rfl)
theorem dJ2_add_2_22 : decode cJ2_add_2 22 = .ok (.return_, 1) := dk_177 (dk_at dksJ2_add_2_0 22 rfl rfl)
abbrev cJ2_grow : ByteArray := prog_29_method_7_code
def yJ2_grow : MethodName := ⟨RJ2, "grow", "()[Ljava/lang/Object;"⟩
def dkwJ2_grow_0 : List UInt8 := [42, 42, 180, 0, 48, 4, 96, 182, 0, 69, 176]
abbrev dktJ2_grow_0 : List UInt8 := dkwJ2_grow_0 ++ []
theorem dksJ2_grow_0 : cJ2_grow.data.toList.drop 0 = dktJ2_grow_0 := by decide +kernel
theorem dJ2_grow_0 : decode cJ2_grow 0 = .ok (.aload_n 0, 1) := dk_42 (dk_at dksJ2_grow_0 0 rfl rfl)
theorem dJ2_grow_1 : decode cJ2_grow 1 = .ok (.aload_n 0, 1) := dk_42 (dk_at dksJ2_grow_0 1 rfl rfl)
theorem dJ2_grow_2 : decode cJ2_grow 2 = .ok (.getfield 48, 3) := dk_180 0 48 (dk_at dksJ2_grow_0 2 rfl rfl)
theorem dJ2_grow_5 : decode cJ2_grow 5 = .ok (.iconst 1, 1) := dk_4 (dk_at dksJ2_grow_0 5 rfl rfl)
theorem dJ2_grow_6 : decode cJ2_grow 6 = .ok (.iadd, 1) := dk_96 (dk_at dksJ2_grow_0 6 rfl rfl)
theorem dJ2_grow_7 : decode cJ2_grow 7 = .ok (.invokevirtual 69, 3) := dk_182 0 69 (dk_at dksJ2_grow_0 7 rfl rfl)
theorem dJ2_grow_10 : decode cJ2_grow 10 = .ok (.areturn, 1) := dk_176 (dk_at dksJ2_grow_0 10 rfl rfl)
abbrev cJ2_grow_2 : ByteArray := prog_29_method_6_code
def yJ2_grow_2 : MethodName := ⟨RJ2, "grow", "(I)[Ljava/lang/Object;"⟩
def dkwJ2_grow_2_2 : List UInt8 := [27, 184, 0, 79, 189, 0, 7, 90, 181, 0, 9, 176]
abbrev dktJ2_grow_2_2 : List UInt8 := dkwJ2_grow_2_2 ++ []
def dkwJ2_grow_2_1 : List UInt8 := [28, 4, 122, 184, 0, 73, 62, 42, 42, 180, 0, 9, 29, 184, 0, 66, 90, 181, 0, 9, 176, 42, 16, 10]
abbrev dktJ2_grow_2_1 : List UInt8 := dkwJ2_grow_2_1 ++ dktJ2_grow_2_2
def dkwJ2_grow_2_0 : List UInt8 := [42, 180, 0, 9, 190, 61, 28, 157, 0, 13, 42, 180, 0, 9, 178, 0, 39, 165, 0, 28, 28, 27, 28, 100]
abbrev dktJ2_grow_2_0 : List UInt8 := dkwJ2_grow_2_0 ++ dktJ2_grow_2_1
theorem dksJ2_grow_2_0 : cJ2_grow_2.data.toList.drop 0 = dktJ2_grow_2_0 := by decide +kernel
theorem dksJ2_grow_2_1 : cJ2_grow_2.data.toList.drop 24 = dktJ2_grow_2_1 := dk_seg dksJ2_grow_2_0 24 rfl rfl
theorem dksJ2_grow_2_2 : cJ2_grow_2.data.toList.drop 48 = dktJ2_grow_2_2 := dk_seg dksJ2_grow_2_1 24 rfl rfl
theorem dJ2_grow_2_0 : decode cJ2_grow_2 0 = .ok (.aload_n 0, 1) := dk_42 (dk_at dksJ2_grow_2_0 0 rfl rfl)
theorem dJ2_grow_2_1 : decode cJ2_grow_2 1 = .ok (.getfield 9, 3) := dk_180 0 9 (dk_at dksJ2_grow_2_0 1 rfl rfl)
theorem dJ2_grow_2_4 : decode cJ2_grow_2 4 = .ok (.arraylength, 1) := dk_190 (dk_at dksJ2_grow_2_0 4 rfl rfl)
theorem dJ2_grow_2_5 : decode cJ2_grow_2 5 = .ok (.istore_n 2, 1) := dk_61 (dk_at dksJ2_grow_2_0 5 rfl rfl)
theorem dJ2_grow_2_6 : decode cJ2_grow_2 6 = .ok (.iload_n 2, 1) := dk_28 (dk_at dksJ2_grow_2_0 6 rfl rfl)
theorem dJ2_grow_2_7 : decode cJ2_grow_2 7 = .ok (.ifCond .gt 13, 3) := dk_157 0 13 (dk_at dksJ2_grow_2_0 7 rfl rfl)
theorem dJ2_grow_2_10 : decode cJ2_grow_2 10 = .ok (.aload_n 0, 1) := dk_42 (dk_at dksJ2_grow_2_0 10 rfl rfl)
theorem dJ2_grow_2_11 : decode cJ2_grow_2 11 = .ok (.getfield 9, 3) := dk_180 0 9 (dk_at dksJ2_grow_2_0 11 rfl rfl)
theorem dJ2_grow_2_14 : decode cJ2_grow_2 14 = .ok (.getstatic 39, 3) := dk_178 0 39 (dk_at dksJ2_grow_2_0 14 rfl rfl)
theorem dJ2_grow_2_17 : decode cJ2_grow_2 17 = .ok (.if_acmp .eq 28, 3) := dk_165 0 28 (dk_at dksJ2_grow_2_0 17 rfl rfl)
theorem dJ2_grow_2_20 : decode cJ2_grow_2 20 = .ok (.iload_n 2, 1) := dk_28 (dk_at dksJ2_grow_2_0 20 rfl rfl)
theorem dJ2_grow_2_21 : decode cJ2_grow_2 21 = .ok (.iload_n 1, 1) := dk_27 (dk_at dksJ2_grow_2_0 21 rfl rfl)
theorem dJ2_grow_2_22 : decode cJ2_grow_2 22 = .ok (.iload_n 2, 1) := dk_28 (dk_at dksJ2_grow_2_0 22 rfl rfl)
theorem dJ2_grow_2_23 : decode cJ2_grow_2 23 = .ok (.isub, 1) := dk_100 (dk_at dksJ2_grow_2_0 23 rfl rfl)
theorem dJ2_grow_2_24 : decode cJ2_grow_2 24 = .ok (.iload_n 2, 1) := dk_28 (dk_at dksJ2_grow_2_1 0 rfl rfl)
theorem dJ2_grow_2_25 : decode cJ2_grow_2 25 = .ok (.iconst 1, 1) := dk_4 (dk_at dksJ2_grow_2_1 1 rfl rfl)
theorem dJ2_grow_2_26 : decode cJ2_grow_2 26 = .ok (.ishr, 1) := dk_122 (dk_at dksJ2_grow_2_1 2 rfl rfl)
theorem dJ2_grow_2_27 : decode cJ2_grow_2 27 = .ok (.invokestatic 73, 3) := dk_184 0 73 (dk_at dksJ2_grow_2_1 3 rfl rfl)
theorem dJ2_grow_2_30 : decode cJ2_grow_2 30 = .ok (.istore_n 3, 1) := dk_62 (dk_at dksJ2_grow_2_1 6 rfl rfl)
theorem dJ2_grow_2_31 : decode cJ2_grow_2 31 = .ok (.aload_n 0, 1) := dk_42 (dk_at dksJ2_grow_2_1 7 rfl rfl)
theorem dJ2_grow_2_32 : decode cJ2_grow_2 32 = .ok (.aload_n 0, 1) := dk_42 (dk_at dksJ2_grow_2_1 8 rfl rfl)
theorem dJ2_grow_2_33 : decode cJ2_grow_2 33 = .ok (.getfield 9, 3) := dk_180 0 9 (dk_at dksJ2_grow_2_1 9 rfl rfl)
theorem dJ2_grow_2_36 : decode cJ2_grow_2 36 = .ok (.iload_n 3, 1) := dk_29 (dk_at dksJ2_grow_2_1 12 rfl rfl)
theorem dJ2_grow_2_37 : decode cJ2_grow_2 37 = .ok (.invokestatic 66, 3) := dk_184 0 66 (dk_at dksJ2_grow_2_1 13 rfl rfl)
theorem dJ2_grow_2_40 : decode cJ2_grow_2 40 = .ok (.dup_x1, 1) := dk_90 (dk_at dksJ2_grow_2_1 16 rfl rfl)
theorem dJ2_grow_2_41 : decode cJ2_grow_2 41 = .ok (.putfield 9, 3) := dk_181 0 9 (dk_at dksJ2_grow_2_1 17 rfl rfl)
theorem dJ2_grow_2_44 : decode cJ2_grow_2 44 = .ok (.areturn, 1) := dk_176 (dk_at dksJ2_grow_2_1 20 rfl rfl)
theorem dJ2_grow_2_45 : decode cJ2_grow_2 45 = .ok (.aload_n 0, 1) := dk_42 (dk_at dksJ2_grow_2_1 21 rfl rfl)
theorem dJ2_grow_2_46 : decode cJ2_grow_2 46 = .ok (.bipush 10, 2) := dk_16 10 (dk_at dksJ2_grow_2_1 22 rfl rfl)
theorem dJ2_grow_2_48 : decode cJ2_grow_2 48 = .ok (.iload_n 1, 1) := dk_27 (dk_at dksJ2_grow_2_2 0 rfl rfl)
theorem dJ2_grow_2_49 : decode cJ2_grow_2 49 = .ok (.invokestatic 79, 3) := dk_184 0 79 (dk_at dksJ2_grow_2_2 1 rfl rfl)
theorem dJ2_grow_2_52 : decode cJ2_grow_2 52 = .ok (.anewarray 7, 3) := dk_189 0 7 (dk_at dksJ2_grow_2_2 4 rfl rfl)
theorem dJ2_grow_2_55 : decode cJ2_grow_2 55 = .ok (.dup_x1, 1) := dk_90 (dk_at dksJ2_grow_2_2 7 rfl rfl)
theorem dJ2_grow_2_56 : decode cJ2_grow_2 56 = .ok (.putfield 9, 3) := dk_181 0 9 (dk_at dksJ2_grow_2_2 8 rfl rfl)
theorem dJ2_grow_2_59 : decode cJ2_grow_2 59 = .ok (.areturn, 1) := dk_176 (dk_at dksJ2_grow_2_2 11 rfl rfl)
abbrev cJ2_remove : ByteArray := prog_29_method_29_code
def yJ2_remove : MethodName := ⟨RJ2, "remove", "(I)Ljava/lang/Object;"⟩
def dkwJ2_remove_1 : List UInt8 := [45, 176]
abbrev dktJ2_remove_1 : List UInt8 := dkwJ2_remove_1 ++ []
def dkwJ2_remove_0 : List UInt8 := [27, 42, 180, 0, 48, 184, 0, 118, 87, 42, 180, 0, 9, 77, 44, 27, 50, 78, 42, 44, 27, 182, 0, 144]
abbrev dktJ2_remove_0 : List UInt8 := dkwJ2_remove_0 ++ dktJ2_remove_1
theorem dksJ2_remove_0 : cJ2_remove.data.toList.drop 0 = dktJ2_remove_0 := by decide +kernel
theorem dksJ2_remove_1 : cJ2_remove.data.toList.drop 24 = dktJ2_remove_1 := dk_seg dksJ2_remove_0 24 rfl rfl
theorem dJ2_remove_0 : decode cJ2_remove 0 = .ok (.iload_n 1, 1) := dk_27 (dk_at dksJ2_remove_0 0 rfl rfl)
theorem dJ2_remove_1 : decode cJ2_remove 1 = .ok (.aload_n 0, 1) := dk_42 (dk_at dksJ2_remove_0 1 rfl rfl)
theorem dJ2_remove_2 : decode cJ2_remove 2 = .ok (.getfield 48, 3) := dk_180 0 48 (dk_at dksJ2_remove_0 2 rfl rfl)
theorem dJ2_remove_5 : decode cJ2_remove 5 = .ok (.invokestatic 118, 3) := dk_184 0 118 (dk_at dksJ2_remove_0 5 rfl rfl)
theorem dJ2_remove_8 : decode cJ2_remove 8 = .ok (.pop, 1) := dk_87 (dk_at dksJ2_remove_0 8 rfl rfl)
theorem dJ2_remove_9 : decode cJ2_remove 9 = .ok (.aload_n 0, 1) := dk_42 (dk_at dksJ2_remove_0 9 rfl rfl)
theorem dJ2_remove_10 : decode cJ2_remove 10 = .ok (.getfield 9, 3) := dk_180 0 9 (dk_at dksJ2_remove_0 10 rfl rfl)
theorem dJ2_remove_13 : decode cJ2_remove 13 = .ok (.astore_n 2, 1) := dk_77 (dk_at dksJ2_remove_0 13 rfl rfl)
theorem dJ2_remove_14 : decode cJ2_remove 14 = .ok (.aload_n 2, 1) := dk_44 (dk_at dksJ2_remove_0 14 rfl rfl)
theorem dJ2_remove_15 : decode cJ2_remove 15 = .ok (.iload_n 1, 1) := dk_27 (dk_at dksJ2_remove_0 15 rfl rfl)
theorem dJ2_remove_16 : decode cJ2_remove 16 = .ok (.aaload, 1) := dk_50 (dk_at dksJ2_remove_0 16 rfl rfl)
theorem dJ2_remove_17 : decode cJ2_remove 17 = .ok (.astore_n 3, 1) := dk_78 (dk_at dksJ2_remove_0 17 rfl rfl)
theorem dJ2_remove_18 : decode cJ2_remove 18 = .ok (.aload_n 0, 1) := dk_42 (dk_at dksJ2_remove_0 18 rfl rfl)
theorem dJ2_remove_19 : decode cJ2_remove 19 = .ok (.aload_n 2, 1) := dk_44 (dk_at dksJ2_remove_0 19 rfl rfl)
theorem dJ2_remove_20 : decode cJ2_remove 20 = .ok (.iload_n 1, 1) := dk_27 (dk_at dksJ2_remove_0 20 rfl rfl)
theorem dJ2_remove_21 : decode cJ2_remove 21 = .ok (.invokevirtual 144, 3) := dk_182 0 144 (dk_at dksJ2_remove_0 21 rfl rfl)
theorem dJ2_remove_24 : decode cJ2_remove 24 = .ok (.aload_n 3, 1) := dk_45 (dk_at dksJ2_remove_1 0 rfl rfl)
theorem dJ2_remove_25 : decode cJ2_remove 25 = .ok (.areturn, 1) := dk_176 (dk_at dksJ2_remove_1 1 rfl rfl)
abbrev cJ2_fastRemove : ByteArray := prog_29_method_39_code
def yJ2_fastRemove : MethodName := ⟨RJ2, "fastRemove", "([Ljava/lang/Object;I)V"⟩
def dkwJ2_fastRemove_1 : List UInt8 := [4, 96, 43, 28, 29, 28, 100, 184, 0, 112, 43, 42, 29, 90, 181, 0, 48, 1, 83, 177]
abbrev dktJ2_fastRemove_1 : List UInt8 := dkwJ2_fastRemove_1 ++ []
def dkwJ2_fastRemove_0 : List UInt8 := [42, 89, 180, 0, 63, 4, 96, 181, 0, 63, 42, 180, 0, 48, 4, 100, 89, 62, 28, 164, 0, 15, 43, 28]
abbrev dktJ2_fastRemove_0 : List UInt8 := dkwJ2_fastRemove_0 ++ dktJ2_fastRemove_1
theorem dksJ2_fastRemove_0 : cJ2_fastRemove.data.toList.drop 0 = dktJ2_fastRemove_0 := by decide +kernel
theorem dksJ2_fastRemove_1 : cJ2_fastRemove.data.toList.drop 24 = dktJ2_fastRemove_1 := dk_seg dksJ2_fastRemove_0 24 rfl rfl
theorem dJ2_fastRemove_0 : decode cJ2_fastRemove 0 = .ok (.aload_n 0, 1) := dk_42 (dk_at dksJ2_fastRemove_0 0 rfl rfl)
theorem dJ2_fastRemove_1 : decode cJ2_fastRemove 1 = .ok (.dup, 1) := dk_89 (dk_at dksJ2_fastRemove_0 1 rfl rfl)
theorem dJ2_fastRemove_2 : decode cJ2_fastRemove 2 = .ok (.getfield 63, 3) := dk_180 0 63 (dk_at dksJ2_fastRemove_0 2 rfl rfl)
theorem dJ2_fastRemove_5 : decode cJ2_fastRemove 5 = .ok (.iconst 1, 1) := dk_4 (dk_at dksJ2_fastRemove_0 5 rfl rfl)
theorem dJ2_fastRemove_6 : decode cJ2_fastRemove 6 = .ok (.iadd, 1) := dk_96 (dk_at dksJ2_fastRemove_0 6 rfl rfl)
theorem dJ2_fastRemove_7 : decode cJ2_fastRemove 7 = .ok (.putfield 63, 3) := dk_181 0 63 (dk_at dksJ2_fastRemove_0 7 rfl rfl)
theorem dJ2_fastRemove_10 : decode cJ2_fastRemove 10 = .ok (.aload_n 0, 1) := dk_42 (dk_at dksJ2_fastRemove_0 10 rfl rfl)
theorem dJ2_fastRemove_11 : decode cJ2_fastRemove 11 = .ok (.getfield 48, 3) := dk_180 0 48 (dk_at dksJ2_fastRemove_0 11 rfl rfl)
theorem dJ2_fastRemove_14 : decode cJ2_fastRemove 14 = .ok (.iconst 1, 1) := dk_4 (dk_at dksJ2_fastRemove_0 14 rfl rfl)
theorem dJ2_fastRemove_15 : decode cJ2_fastRemove 15 = .ok (.isub, 1) := dk_100 (dk_at dksJ2_fastRemove_0 15 rfl rfl)
theorem dJ2_fastRemove_16 : decode cJ2_fastRemove 16 = .ok (.dup, 1) := dk_89 (dk_at dksJ2_fastRemove_0 16 rfl rfl)
theorem dJ2_fastRemove_17 : decode cJ2_fastRemove 17 = .ok (.istore_n 3, 1) := dk_62 (dk_at dksJ2_fastRemove_0 17 rfl rfl)
theorem dJ2_fastRemove_18 : decode cJ2_fastRemove 18 = .ok (.iload_n 2, 1) := dk_28 (dk_at dksJ2_fastRemove_0 18 rfl rfl)
theorem dJ2_fastRemove_19 : decode cJ2_fastRemove 19 = .ok (.if_icmp .le 15, 3) := dk_164 0 15 (dk_at dksJ2_fastRemove_0 19 rfl rfl)
theorem dJ2_fastRemove_22 : decode cJ2_fastRemove 22 = .ok (.aload_n 1, 1) := dk_43 (dk_at dksJ2_fastRemove_0 22 rfl rfl)
theorem dJ2_fastRemove_23 : decode cJ2_fastRemove 23 = .ok (.iload_n 2, 1) := dk_28 (dk_at dksJ2_fastRemove_0 23 rfl rfl)
theorem dJ2_fastRemove_24 : decode cJ2_fastRemove 24 = .ok (.iconst 1, 1) := dk_4 (dk_at dksJ2_fastRemove_1 0 rfl rfl)
theorem dJ2_fastRemove_25 : decode cJ2_fastRemove 25 = .ok (.iadd, 1) := dk_96 (dk_at dksJ2_fastRemove_1 1 rfl rfl)
theorem dJ2_fastRemove_26 : decode cJ2_fastRemove 26 = .ok (.aload_n 1, 1) := dk_43 (dk_at dksJ2_fastRemove_1 2 rfl rfl)
theorem dJ2_fastRemove_27 : decode cJ2_fastRemove 27 = .ok (.iload_n 2, 1) := dk_28 (dk_at dksJ2_fastRemove_1 3 rfl rfl)
theorem dJ2_fastRemove_28 : decode cJ2_fastRemove 28 = .ok (.iload_n 3, 1) := dk_29 (dk_at dksJ2_fastRemove_1 4 rfl rfl)
theorem dJ2_fastRemove_29 : decode cJ2_fastRemove 29 = .ok (.iload_n 2, 1) := dk_28 (dk_at dksJ2_fastRemove_1 5 rfl rfl)
theorem dJ2_fastRemove_30 : decode cJ2_fastRemove 30 = .ok (.isub, 1) := dk_100 (dk_at dksJ2_fastRemove_1 6 rfl rfl)
theorem dJ2_fastRemove_31 : decode cJ2_fastRemove 31 = .ok (.invokestatic 112, 3) := dk_184 0 112 (dk_at dksJ2_fastRemove_1 7 rfl rfl)
theorem dJ2_fastRemove_34 : decode cJ2_fastRemove 34 = .ok (.aload_n 1, 1) := dk_43 (dk_at dksJ2_fastRemove_1 10 rfl rfl)
theorem dJ2_fastRemove_35 : decode cJ2_fastRemove 35 = .ok (.aload_n 0, 1) := dk_42 (dk_at dksJ2_fastRemove_1 11 rfl rfl)
theorem dJ2_fastRemove_36 : decode cJ2_fastRemove 36 = .ok (.iload_n 3, 1) := dk_29 (dk_at dksJ2_fastRemove_1 12 rfl rfl)
theorem dJ2_fastRemove_37 : decode cJ2_fastRemove 37 = .ok (.dup_x1, 1) := dk_90 (dk_at dksJ2_fastRemove_1 13 rfl rfl)
theorem dJ2_fastRemove_38 : decode cJ2_fastRemove 38 = .ok (.putfield 48, 3) := dk_181 0 48 (dk_at dksJ2_fastRemove_1 14 rfl rfl)
theorem dJ2_fastRemove_41 : decode cJ2_fastRemove 41 = .ok (.aconst_null, 1) := dk_1 (dk_at dksJ2_fastRemove_1 17 rfl rfl)
theorem dJ2_fastRemove_42 : decode cJ2_fastRemove 42 = .ok (.aastore, 1) := dk_83 (dk_at dksJ2_fastRemove_1 18 rfl rfl)
theorem dJ2_fastRemove_43 : decode cJ2_fastRemove 43 = .ok (.return_, 1) := dk_177 (dk_at dksJ2_fastRemove_1 19 rfl rfl)
abbrev cJ2_clear : ByteArray := prog_29_method_40_code
def yJ2_clear : MethodName := ⟨RJ2, "clear", "()V"⟩
def dkwJ2_clear_1 : List UInt8 := [181, 0, 48, 62, 29, 28, 162, 0, 13, 43, 29, 1, 83, 132, 3, 1, 167, 255, 244, 177]
abbrev dktJ2_clear_1 : List UInt8 := dkwJ2_clear_1 ++ []
def dkwJ2_clear_0 : List UInt8 := [42, 89, 180, 0, 63, 4, 96, 181, 0, 63, 42, 180, 0, 9, 76, 42, 180, 0, 48, 61, 42, 3, 90]
abbrev dktJ2_clear_0 : List UInt8 := dkwJ2_clear_0 ++ dktJ2_clear_1
theorem dksJ2_clear_0 : cJ2_clear.data.toList.drop 0 = dktJ2_clear_0 := by decide +kernel
theorem dksJ2_clear_1 : cJ2_clear.data.toList.drop 23 = dktJ2_clear_1 := dk_seg dksJ2_clear_0 23 rfl rfl
theorem dJ2_clear_0 : decode cJ2_clear 0 = .ok (.aload_n 0, 1) := dk_42 (dk_at dksJ2_clear_0 0 rfl rfl)
theorem dJ2_clear_1 : decode cJ2_clear 1 = .ok (.dup, 1) := dk_89 (dk_at dksJ2_clear_0 1 rfl rfl)
theorem dJ2_clear_2 : decode cJ2_clear 2 = .ok (.getfield 63, 3) := dk_180 0 63 (dk_at dksJ2_clear_0 2 rfl rfl)
theorem dJ2_clear_5 : decode cJ2_clear 5 = .ok (.iconst 1, 1) := dk_4 (dk_at dksJ2_clear_0 5 rfl rfl)
theorem dJ2_clear_6 : decode cJ2_clear 6 = .ok (.iadd, 1) := dk_96 (dk_at dksJ2_clear_0 6 rfl rfl)
theorem dJ2_clear_7 : decode cJ2_clear 7 = .ok (.putfield 63, 3) := dk_181 0 63 (dk_at dksJ2_clear_0 7 rfl rfl)
theorem dJ2_clear_10 : decode cJ2_clear 10 = .ok (.aload_n 0, 1) := dk_42 (dk_at dksJ2_clear_0 10 rfl rfl)
theorem dJ2_clear_11 : decode cJ2_clear 11 = .ok (.getfield 9, 3) := dk_180 0 9 (dk_at dksJ2_clear_0 11 rfl rfl)
theorem dJ2_clear_14 : decode cJ2_clear 14 = .ok (.astore_n 1, 1) := dk_76 (dk_at dksJ2_clear_0 14 rfl rfl)
theorem dJ2_clear_15 : decode cJ2_clear 15 = .ok (.aload_n 0, 1) := dk_42 (dk_at dksJ2_clear_0 15 rfl rfl)
theorem dJ2_clear_16 : decode cJ2_clear 16 = .ok (.getfield 48, 3) := dk_180 0 48 (dk_at dksJ2_clear_0 16 rfl rfl)
theorem dJ2_clear_19 : decode cJ2_clear 19 = .ok (.istore_n 2, 1) := dk_61 (dk_at dksJ2_clear_0 19 rfl rfl)
theorem dJ2_clear_20 : decode cJ2_clear 20 = .ok (.aload_n 0, 1) := dk_42 (dk_at dksJ2_clear_0 20 rfl rfl)
theorem dJ2_clear_21 : decode cJ2_clear 21 = .ok (.iconst 0, 1) := dk_3 (dk_at dksJ2_clear_0 21 rfl rfl)
theorem dJ2_clear_22 : decode cJ2_clear 22 = .ok (.dup_x1, 1) := dk_90 (dk_at dksJ2_clear_0 22 rfl rfl)
theorem dJ2_clear_23 : decode cJ2_clear 23 = .ok (.putfield 48, 3) := dk_181 0 48 (dk_at dksJ2_clear_1 0 rfl rfl)
theorem dJ2_clear_26 : decode cJ2_clear 26 = .ok (.istore_n 3, 1) := dk_62 (dk_at dksJ2_clear_1 3 rfl rfl)
theorem dJ2_clear_27 : decode cJ2_clear 27 = .ok (.iload_n 3, 1) := dk_29 (dk_at dksJ2_clear_1 4 rfl rfl)
theorem dJ2_clear_28 : decode cJ2_clear 28 = .ok (.iload_n 2, 1) := dk_28 (dk_at dksJ2_clear_1 5 rfl rfl)
theorem dJ2_clear_29 : decode cJ2_clear 29 = .ok (.if_icmp .ge 13, 3) := dk_162 0 13 (dk_at dksJ2_clear_1 6 rfl rfl)
theorem dJ2_clear_32 : decode cJ2_clear 32 = .ok (.aload_n 1, 1) := dk_43 (dk_at dksJ2_clear_1 9 rfl rfl)
theorem dJ2_clear_33 : decode cJ2_clear 33 = .ok (.iload_n 3, 1) := dk_29 (dk_at dksJ2_clear_1 10 rfl rfl)
theorem dJ2_clear_34 : decode cJ2_clear 34 = .ok (.aconst_null, 1) := dk_1 (dk_at dksJ2_clear_1 11 rfl rfl)
theorem dJ2_clear_35 : decode cJ2_clear 35 = .ok (.aastore, 1) := dk_83 (dk_at dksJ2_clear_1 12 rfl rfl)
theorem dJ2_clear_36 : decode cJ2_clear 36 = .ok (.iinc 3 1, 3) := dk_132 3 1 (dk_at dksJ2_clear_1 13 rfl rfl)
theorem dJ2_clear_39 : decode cJ2_clear 39 = .ok (.goto (-12), 3) := dk_167 255 244 (dk_at dksJ2_clear_1 16 rfl rfl)
theorem dJ2_clear_42 : decode cJ2_clear 42 = .ok (.return_, 1) := dk_177 (dk_at dksJ2_clear_1 19 rfl rfl)
abbrev cJ2_addAll : ByteArray := prog_29_method_41_code
def yJ2_addAll : MethodName := ⟨RJ2, "addAll", "(Ljava/util/Collection;)Z"⟩
def dkwJ2_addAll_3 : List UInt8 := [181, 0, 48, 4, 172]
abbrev dktJ2_addAll_3 : List UInt8 := dkwJ2_addAll_3 ++ []
def dkwJ2_addAll_2 : List UInt8 := [21, 5, 29, 96, 182, 0, 69, 58, 4, 44, 3, 25, 4, 21, 5, 29, 184, 0, 112, 42, 21, 5, 29, 96]
abbrev dktJ2_addAll_2 : List UInt8 := dkwJ2_addAll_2 ++ dktJ2_addAll_3
def dkwJ2_addAll_1 : List UInt8 := [3, 172, 29, 42, 180, 0, 9, 89, 58, 4, 190, 42, 180, 0, 48, 89, 54, 5, 100, 164, 0, 13, 42]
abbrev dktJ2_addAll_1 : List UInt8 := dkwJ2_addAll_1 ++ dktJ2_addAll_2
def dkwJ2_addAll_0 : List UInt8 := [43, 185, 0, 42, 1, 0, 77, 42, 89, 180, 0, 63, 4, 96, 181, 0, 63, 44, 190, 62, 29, 154, 0, 5]
abbrev dktJ2_addAll_0 : List UInt8 := dkwJ2_addAll_0 ++ dktJ2_addAll_1
theorem dksJ2_addAll_0 : cJ2_addAll.data.toList.drop 0 = dktJ2_addAll_0 := by decide +kernel
theorem dksJ2_addAll_1 : cJ2_addAll.data.toList.drop 24 = dktJ2_addAll_1 := dk_seg dksJ2_addAll_0 24 rfl rfl
theorem dksJ2_addAll_2 : cJ2_addAll.data.toList.drop 47 = dktJ2_addAll_2 := dk_seg dksJ2_addAll_1 23 rfl rfl
theorem dksJ2_addAll_3 : cJ2_addAll.data.toList.drop 71 = dktJ2_addAll_3 := dk_seg dksJ2_addAll_2 24 rfl rfl
theorem dJ2_addAll_0 : decode cJ2_addAll 0 = .ok (.aload_n 1, 1) := dk_43 (dk_at dksJ2_addAll_0 0 rfl rfl)
theorem dJ2_addAll_1 : decode cJ2_addAll 1 = .ok (.invokeinterface 42 1, 5) := by decide +kernel
theorem dJ2_addAll_6 : decode cJ2_addAll 6 = .ok (.astore_n 2, 1) := dk_77 (dk_at dksJ2_addAll_0 6 rfl rfl)
theorem dJ2_addAll_7 : decode cJ2_addAll 7 = .ok (.aload_n 0, 1) := dk_42 (dk_at dksJ2_addAll_0 7 rfl rfl)
theorem dJ2_addAll_8 : decode cJ2_addAll 8 = .ok (.dup, 1) := dk_89 (dk_at dksJ2_addAll_0 8 rfl rfl)
theorem dJ2_addAll_9 : decode cJ2_addAll 9 = .ok (.getfield 63, 3) := dk_180 0 63 (dk_at dksJ2_addAll_0 9 rfl rfl)
theorem dJ2_addAll_12 : decode cJ2_addAll 12 = .ok (.iconst 1, 1) := dk_4 (dk_at dksJ2_addAll_0 12 rfl rfl)
theorem dJ2_addAll_13 : decode cJ2_addAll 13 = .ok (.iadd, 1) := dk_96 (dk_at dksJ2_addAll_0 13 rfl rfl)
theorem dJ2_addAll_14 : decode cJ2_addAll 14 = .ok (.putfield 63, 3) := dk_181 0 63 (dk_at dksJ2_addAll_0 14 rfl rfl)
theorem dJ2_addAll_17 : decode cJ2_addAll 17 = .ok (.aload_n 2, 1) := dk_44 (dk_at dksJ2_addAll_0 17 rfl rfl)
theorem dJ2_addAll_18 : decode cJ2_addAll 18 = .ok (.arraylength, 1) := dk_190 (dk_at dksJ2_addAll_0 18 rfl rfl)
theorem dJ2_addAll_19 : decode cJ2_addAll 19 = .ok (.istore_n 3, 1) := dk_62 (dk_at dksJ2_addAll_0 19 rfl rfl)
theorem dJ2_addAll_20 : decode cJ2_addAll 20 = .ok (.iload_n 3, 1) := dk_29 (dk_at dksJ2_addAll_0 20 rfl rfl)
theorem dJ2_addAll_21 : decode cJ2_addAll 21 = .ok (.ifCond .ne 5, 3) := dk_154 0 5 (dk_at dksJ2_addAll_0 21 rfl rfl)
theorem dJ2_addAll_24 : decode cJ2_addAll 24 = .ok (.iconst 0, 1) := dk_3 (dk_at dksJ2_addAll_1 0 rfl rfl)
theorem dJ2_addAll_25 : decode cJ2_addAll 25 = .ok (.ireturn, 1) := dk_172 (dk_at dksJ2_addAll_1 1 rfl rfl)
theorem dJ2_addAll_26 : decode cJ2_addAll 26 = .ok (.iload_n 3, 1) := dk_29 (dk_at dksJ2_addAll_1 2 rfl rfl)
theorem dJ2_addAll_27 : decode cJ2_addAll 27 = .ok (.aload_n 0, 1) := dk_42 (dk_at dksJ2_addAll_1 3 rfl rfl)
theorem dJ2_addAll_28 : decode cJ2_addAll 28 = .ok (.getfield 9, 3) := dk_180 0 9 (dk_at dksJ2_addAll_1 4 rfl rfl)
theorem dJ2_addAll_31 : decode cJ2_addAll 31 = .ok (.dup, 1) := dk_89 (dk_at dksJ2_addAll_1 7 rfl rfl)
theorem dJ2_addAll_32 : decode cJ2_addAll 32 = .ok (.astore 4, 2) := dk_58 4 (dk_at dksJ2_addAll_1 8 rfl rfl)
theorem dJ2_addAll_34 : decode cJ2_addAll 34 = .ok (.arraylength, 1) := dk_190 (dk_at dksJ2_addAll_1 10 rfl rfl)
theorem dJ2_addAll_35 : decode cJ2_addAll 35 = .ok (.aload_n 0, 1) := dk_42 (dk_at dksJ2_addAll_1 11 rfl rfl)
theorem dJ2_addAll_36 : decode cJ2_addAll 36 = .ok (.getfield 48, 3) := dk_180 0 48 (dk_at dksJ2_addAll_1 12 rfl rfl)
theorem dJ2_addAll_39 : decode cJ2_addAll 39 = .ok (.dup, 1) := dk_89 (dk_at dksJ2_addAll_1 15 rfl rfl)
theorem dJ2_addAll_40 : decode cJ2_addAll 40 = .ok (.istore 5, 2) := dk_54 5 (dk_at dksJ2_addAll_1 16 rfl rfl)
theorem dJ2_addAll_42 : decode cJ2_addAll 42 = .ok (.isub, 1) := dk_100 (dk_at dksJ2_addAll_1 18 rfl rfl)
theorem dJ2_addAll_43 : decode cJ2_addAll 43 = .ok (.if_icmp .le 13, 3) := dk_164 0 13 (dk_at dksJ2_addAll_1 19 rfl rfl)
theorem dJ2_addAll_46 : decode cJ2_addAll 46 = .ok (.aload_n 0, 1) := dk_42 (dk_at dksJ2_addAll_1 22 rfl rfl)
theorem dJ2_addAll_47 : decode cJ2_addAll 47 = .ok (.iload 5, 2) := dk_21 5 (dk_at dksJ2_addAll_2 0 rfl rfl)
theorem dJ2_addAll_49 : decode cJ2_addAll 49 = .ok (.iload_n 3, 1) := dk_29 (dk_at dksJ2_addAll_2 2 rfl rfl)
theorem dJ2_addAll_50 : decode cJ2_addAll 50 = .ok (.iadd, 1) := dk_96 (dk_at dksJ2_addAll_2 3 rfl rfl)
theorem dJ2_addAll_51 : decode cJ2_addAll 51 = .ok (.invokevirtual 69, 3) := dk_182 0 69 (dk_at dksJ2_addAll_2 4 rfl rfl)
theorem dJ2_addAll_54 : decode cJ2_addAll 54 = .ok (.astore 4, 2) := dk_58 4 (dk_at dksJ2_addAll_2 7 rfl rfl)
theorem dJ2_addAll_56 : decode cJ2_addAll 56 = .ok (.aload_n 2, 1) := dk_44 (dk_at dksJ2_addAll_2 9 rfl rfl)
theorem dJ2_addAll_57 : decode cJ2_addAll 57 = .ok (.iconst 0, 1) := dk_3 (dk_at dksJ2_addAll_2 10 rfl rfl)
theorem dJ2_addAll_58 : decode cJ2_addAll 58 = .ok (.aload 4, 2) := dk_25 4 (dk_at dksJ2_addAll_2 11 rfl rfl)
theorem dJ2_addAll_60 : decode cJ2_addAll 60 = .ok (.iload 5, 2) := dk_21 5 (dk_at dksJ2_addAll_2 13 rfl rfl)
theorem dJ2_addAll_62 : decode cJ2_addAll 62 = .ok (.iload_n 3, 1) := dk_29 (dk_at dksJ2_addAll_2 15 rfl rfl)
theorem dJ2_addAll_63 : decode cJ2_addAll 63 = .ok (.invokestatic 112, 3) := dk_184 0 112 (dk_at dksJ2_addAll_2 16 rfl rfl)
theorem dJ2_addAll_66 : decode cJ2_addAll 66 = .ok (.aload_n 0, 1) := dk_42 (dk_at dksJ2_addAll_2 19 rfl rfl)
theorem dJ2_addAll_67 : decode cJ2_addAll 67 = .ok (.iload 5, 2) := dk_21 5 (dk_at dksJ2_addAll_2 20 rfl rfl)
theorem dJ2_addAll_69 : decode cJ2_addAll 69 = .ok (.iload_n 3, 1) := dk_29 (dk_at dksJ2_addAll_2 22 rfl rfl)
theorem dJ2_addAll_70 : decode cJ2_addAll 70 = .ok (.iadd, 1) := dk_96 (dk_at dksJ2_addAll_2 23 rfl rfl)
theorem dJ2_addAll_71 : decode cJ2_addAll 71 = .ok (.putfield 48, 3) := dk_181 0 48 (dk_at dksJ2_addAll_3 0 rfl rfl)
theorem dJ2_addAll_74 : decode cJ2_addAll 74 = .ok (.iconst 1, 1) := dk_4 (dk_at dksJ2_addAll_3 3 rfl rfl)
theorem dJ2_addAll_75 : decode cJ2_addAll 75 = .ok (.ireturn, 1) := dk_172 (dk_at dksJ2_addAll_3 4 rfl rfl)
abbrev cJ2_toArray : ByteArray := prog_29_method_16_code
def yJ2_toArray : MethodName := ⟨RJ2, "toArray", "()[Ljava/lang/Object;"⟩
def dkwJ2_toArray_0 : List UInt8 := [42, 180, 0, 9, 42, 180, 0, 48, 184, 0, 66, 176]
abbrev dktJ2_toArray_0 : List UInt8 := dkwJ2_toArray_0 ++ []
theorem dksJ2_toArray_0 : cJ2_toArray.data.toList.drop 0 = dktJ2_toArray_0 := by decide +kernel
theorem dJ2_toArray_0 : decode cJ2_toArray 0 = .ok (.aload_n 0, 1) := dk_42 (dk_at dksJ2_toArray_0 0 rfl rfl)
theorem dJ2_toArray_1 : decode cJ2_toArray 1 = .ok (.getfield 9, 3) := dk_180 0 9 (dk_at dksJ2_toArray_0 1 rfl rfl)
theorem dJ2_toArray_4 : decode cJ2_toArray 4 = .ok (.aload_n 0, 1) := dk_42 (dk_at dksJ2_toArray_0 4 rfl rfl)
theorem dJ2_toArray_5 : decode cJ2_toArray 5 = .ok (.getfield 48, 3) := dk_180 0 48 (dk_at dksJ2_toArray_0 5 rfl rfl)
theorem dJ2_toArray_8 : decode cJ2_toArray 8 = .ok (.invokestatic 66, 3) := dk_184 0 66 (dk_at dksJ2_toArray_0 8 rfl rfl)
theorem dJ2_toArray_11 : decode cJ2_toArray 11 = .ok (.areturn, 1) := dk_176 (dk_at dksJ2_toArray_0 11 rfl rfl)
theorem q54 : (Jvm.Cond.initialized "java/util/ArrayList") ∈ lw_all := lw_g (lw_at lw_m1 6 rfl) rfl
theorem q143 : (Jvm.Cond.instantiable "java/util/ArrayList" (3 : Nat)) ∈ lw_all := lw_g (lw_at lw_m1 95 rfl) rfl
theorem q145 : (Jvm.Cond.instanceMethod ({ cls := "java/util/ArrayList", name := "<init>", desc := "()V" } : Jvm.MethodName)) ∈ lw_all := lw_g (lw_at lw_m1 97 rfl) rfl
theorem q146 : (Jvm.Cond.code ({ cls := "java/util/ArrayList", name := "<init>", desc := "()V" } : Jvm.MethodName) prog_29_method_2_code (1 : Nat) (Option.none : Option Jvm.ClassFile.FieldType)) ∈ lw_all := lw_g (lw_at lw_m1 98 rfl) rfl
theorem q147 : (Jvm.Cond.methodLink "java/util/ArrayList" (1 : Nat) ({ cls := "java/util/AbstractList", name := "<init>", desc := "()V" } : Jvm.MethodName)) ∈ lw_all := lw_g (lw_at lw_m1 99 rfl) rfl
theorem q154 : (Jvm.Cond.fieldLink "java/util/ArrayList" (39 : Nat) "java/util/ArrayList" "DEFAULTCAPACITY_EMPTY_ELEMENTDATA" "[Ljava/lang/Object;") ∈ lw_all := lw_g (lw_at lw_m1 106 rfl) rfl
theorem q155 : (Jvm.Cond.laysStatic "java/util/ArrayList" "DEFAULTCAPACITY_EMPTY_ELEMENTDATA" "[Ljava/lang/Object;") ∈ lw_tbl := lw_at lw_m1 107 rfl
theorem q156 : (Jvm.Cond.fieldLink "java/util/ArrayList" (9 : Nat) "java/util/ArrayList" "elementData" "[Ljava/lang/Object;") ∈ lw_all := lw_g (lw_at lw_m1 108 rfl) rfl
theorem q157 : (Jvm.Cond.fieldLink "java/util/ArrayList" (48 : Nat) "java/util/ArrayList" "size" "I") ∈ lw_all := lw_g (lw_at lw_m1 109 rfl) rfl
theorem q159 : (Jvm.Cond.fieldLink "java/util/ArrayList" (63 : Nat) "java/util/ArrayList" "modCount" "I") ∈ lw_all := lw_g (lw_at lw_m1 111 rfl) rfl
theorem q160 : (Jvm.Cond.sameField "java/util/ArrayList" "java/util/AbstractList" "modCount" "I") ∈ lw_all := lw_g (lw_at lw_m1 112 rfl) rfl
theorem q161 : (Jvm.Cond.lays "java/util/ArrayList" "java/util/ArrayList" "elementData" "[Ljava/lang/Object;") ∈ lw_all := lw_g (lw_at lw_m1 113 rfl) rfl
theorem q162 : (Jvm.Cond.soleField "java/util/ArrayList" "elementData") ∈ lw_all := lw_g (lw_at lw_m1 114 rfl) rfl
theorem q163 : (Jvm.Cond.lays "java/util/ArrayList" "java/util/ArrayList" "size" "I") ∈ lw_all := lw_g (lw_at lw_m1 115 rfl) rfl
theorem q164 : (Jvm.Cond.soleField "java/util/ArrayList" "size") ∈ lw_all := lw_g (lw_at lw_m1 116 rfl) rfl
theorem q165 : (Jvm.Cond.lays "java/util/ArrayList" "java/util/AbstractList" "modCount" "I") ∈ lw_all := lw_g (lw_at lw_m1 117 rfl) rfl
theorem q167 : (Jvm.Cond.superclass "java/util/ArrayList" "java/util/AbstractList") ∈ lw_all := lw_g (lw_at lw_m1 119 rfl) rfl
theorem q385 : (Jvm.Cond.castable "java/util/ArrayList" "java/util/List") ∈ lw_tbl := lw_at lw_m2 97 rfl
theorem q386 : (Jvm.Cond.selects "java/util/ArrayList" ({ cls := "java/util/List", name := "size", desc := "()I" } : Jvm.MethodName) ({ cls := "java/util/ArrayList", name := "size", desc := "()I" } : Jvm.MethodName)) ∈ lw_all := lw_g (lw_at lw_m2 98 rfl) rfl
theorem q387 : (Jvm.Cond.unhidden "java/util/ArrayList" "size" "()I") ∈ lw_tbl := lw_at lw_m2 99 rfl
theorem q388 : (Jvm.Cond.instanceMethod ({ cls := "java/util/ArrayList", name := "size", desc := "()I" } : Jvm.MethodName)) ∈ lw_all := lw_g (lw_at lw_m2 100 rfl) rfl
theorem q389 : (Jvm.Cond.publicMethod ({ cls := "java/util/ArrayList", name := "size", desc := "()I" } : Jvm.MethodName)) ∈ lw_tbl := lw_at lw_m2 101 rfl
theorem q390 : (Jvm.Cond.code ({ cls := "java/util/ArrayList", name := "size", desc := "()I" } : Jvm.MethodName) prog_29_method_8_code (1 : Nat) (Option.some Jvm.ClassFile.FieldType.int)) ∈ lw_all := lw_g (lw_at lw_m2 102 rfl) rfl
theorem q395 : (Jvm.Cond.selects "java/util/ArrayList" ({ cls := "java/util/List", name := "get", desc := "(I)Ljava/lang/Object;" } : Jvm.MethodName) ({ cls := "java/util/ArrayList", name := "get", desc := "(I)Ljava/lang/Object;" } : Jvm.MethodName)) ∈ lw_all := lw_g (lw_at lw_m2 107 rfl) rfl
theorem q396 : (Jvm.Cond.unhidden "java/util/ArrayList" "get" "(I)Ljava/lang/Object;") ∈ lw_tbl := lw_at lw_m2 108 rfl
theorem q397 : (Jvm.Cond.instanceMethod ({ cls := "java/util/ArrayList", name := "get", desc := "(I)Ljava/lang/Object;" } : Jvm.MethodName)) ∈ lw_all := lw_g (lw_at lw_m2 109 rfl) rfl
theorem q398 : (Jvm.Cond.publicMethod ({ cls := "java/util/ArrayList", name := "get", desc := "(I)Ljava/lang/Object;" } : Jvm.MethodName)) ∈ lw_tbl := lw_at lw_m2 110 rfl
theorem q399 : (Jvm.Cond.code ({ cls := "java/util/ArrayList", name := "get", desc := "(I)Ljava/lang/Object;" } : Jvm.MethodName) prog_29_method_20_code (2 : Nat) (Option.some (Jvm.ClassFile.FieldType.object "java/lang/Object"))) ∈ lw_all := lw_g (lw_at lw_m2 111 rfl) rfl
theorem q400 : (Jvm.Cond.methodLink "java/util/ArrayList" (118 : Nat) ({ cls := "java/util/Objects", name := "checkIndex", desc := "(II)I" } : Jvm.MethodName)) ∈ lw_all := lw_g (lw_at lw_m2 112 rfl) rfl
theorem q406 : (Jvm.Cond.methodLink "java/util/ArrayList" (123 : Nat) ({ cls := "java/util/ArrayList", name := "elementData", desc := "(I)Ljava/lang/Object;" } : Jvm.MethodName)) ∈ lw_all := lw_g (lw_at lw_m2 118 rfl) rfl
theorem q407 : (Jvm.Cond.instanceMethod ({ cls := "java/util/ArrayList", name := "elementData", desc := "(I)Ljava/lang/Object;" } : Jvm.MethodName)) ∈ lw_all := lw_g (lw_at lw_m2 119 rfl) rfl
theorem q408 : (Jvm.Cond.selects "java/util/ArrayList" ({ cls := "java/util/ArrayList", name := "elementData", desc := "(I)Ljava/lang/Object;" } : Jvm.MethodName) ({ cls := "java/util/ArrayList", name := "elementData", desc := "(I)Ljava/lang/Object;" } : Jvm.MethodName)) ∈ lw_all := lw_g (lw_at lw_m2 120 rfl) rfl
theorem q409 : (Jvm.Cond.code ({ cls := "java/util/ArrayList", name := "elementData", desc := "(I)Ljava/lang/Object;" } : Jvm.MethodName) prog_29_method_18_code (2 : Nat) (Option.some (Jvm.ClassFile.FieldType.object "java/lang/Object"))) ∈ lw_all := lw_g (lw_at lw_m2 121 rfl) rfl
theorem q445 : (Jvm.Cond.selects "java/util/ArrayList" ({ cls := "java/util/List", name := "add", desc := "(Ljava/lang/Object;)Z" } : Jvm.MethodName) ({ cls := "java/util/ArrayList", name := "add", desc := "(Ljava/lang/Object;)Z" } : Jvm.MethodName)) ∈ lw_all := lw_g (lw_at lw_m2 157 rfl) rfl
theorem q446 : (Jvm.Cond.unhidden "java/util/ArrayList" "add" "(Ljava/lang/Object;)Z") ∈ lw_tbl := lw_at lw_m2 158 rfl
theorem q447 : (Jvm.Cond.instanceMethod ({ cls := "java/util/ArrayList", name := "add", desc := "(Ljava/lang/Object;)Z" } : Jvm.MethodName)) ∈ lw_all := lw_g (lw_at lw_m2 159 rfl) rfl
theorem q448 : (Jvm.Cond.publicMethod ({ cls := "java/util/ArrayList", name := "add", desc := "(Ljava/lang/Object;)Z" } : Jvm.MethodName)) ∈ lw_tbl := lw_at lw_m2 160 rfl
theorem q449 : (Jvm.Cond.code ({ cls := "java/util/ArrayList", name := "add", desc := "(Ljava/lang/Object;)Z" } : Jvm.MethodName) prog_29_method_25_code (2 : Nat) (Option.some Jvm.ClassFile.FieldType.boolean)) ∈ lw_all := lw_g (lw_at lw_m2 161 rfl) rfl
theorem q450 : (Jvm.Cond.methodLink "java/util/ArrayList" (131 : Nat) ({ cls := "java/util/ArrayList", name := "add", desc := "(Ljava/lang/Object;[Ljava/lang/Object;I)V" } : Jvm.MethodName)) ∈ lw_all := lw_g (lw_at lw_m2 162 rfl) rfl
theorem q451 : (Jvm.Cond.privateMethod ({ cls := "java/util/ArrayList", name := "add", desc := "(Ljava/lang/Object;[Ljava/lang/Object;I)V" } : Jvm.MethodName)) ∈ lw_tbl := lw_at lw_m2 163 rfl
theorem q452 : (Jvm.Cond.instanceMethod ({ cls := "java/util/ArrayList", name := "add", desc := "(Ljava/lang/Object;[Ljava/lang/Object;I)V" } : Jvm.MethodName)) ∈ lw_all := lw_g (lw_at lw_m2 164 rfl) rfl
theorem q453 : (Jvm.Cond.code ({ cls := "java/util/ArrayList", name := "add", desc := "(Ljava/lang/Object;[Ljava/lang/Object;I)V" } : Jvm.MethodName) prog_29_method_24_code (4 : Nat) (Option.none : Option Jvm.ClassFile.FieldType)) ∈ lw_all := lw_g (lw_at lw_m2 165 rfl) rfl
theorem q454 : (Jvm.Cond.methodLink "java/util/ArrayList" (129 : Nat) ({ cls := "java/util/ArrayList", name := "grow", desc := "()[Ljava/lang/Object;" } : Jvm.MethodName)) ∈ lw_all := lw_g (lw_at lw_m2 166 rfl) rfl
theorem q455 : (Jvm.Cond.privateMethod ({ cls := "java/util/ArrayList", name := "grow", desc := "()[Ljava/lang/Object;" } : Jvm.MethodName)) ∈ lw_tbl := lw_at lw_m2 167 rfl
theorem q456 : (Jvm.Cond.instanceMethod ({ cls := "java/util/ArrayList", name := "grow", desc := "()[Ljava/lang/Object;" } : Jvm.MethodName)) ∈ lw_all := lw_g (lw_at lw_m2 168 rfl) rfl
theorem q457 : (Jvm.Cond.code ({ cls := "java/util/ArrayList", name := "grow", desc := "()[Ljava/lang/Object;" } : Jvm.MethodName) prog_29_method_7_code (1 : Nat) (Option.some (Jvm.ClassFile.FieldType.array (Jvm.ClassFile.FieldType.object "java/lang/Object")))) ∈ lw_all := lw_g (lw_at lw_m2 169 rfl) rfl
theorem q458 : (Jvm.Cond.methodLink "java/util/ArrayList" (69 : Nat) ({ cls := "java/util/ArrayList", name := "grow", desc := "(I)[Ljava/lang/Object;" } : Jvm.MethodName)) ∈ lw_all := lw_g (lw_at lw_m2 170 rfl) rfl
theorem q459 : (Jvm.Cond.privateMethod ({ cls := "java/util/ArrayList", name := "grow", desc := "(I)[Ljava/lang/Object;" } : Jvm.MethodName)) ∈ lw_tbl := lw_at lw_m2 171 rfl
theorem q460 : (Jvm.Cond.instanceMethod ({ cls := "java/util/ArrayList", name := "grow", desc := "(I)[Ljava/lang/Object;" } : Jvm.MethodName)) ∈ lw_all := lw_g (lw_at lw_m2 172 rfl) rfl
theorem q461 : (Jvm.Cond.code ({ cls := "java/util/ArrayList", name := "grow", desc := "(I)[Ljava/lang/Object;" } : Jvm.MethodName) prog_29_method_6_code (4 : Nat) (Option.some (Jvm.ClassFile.FieldType.array (Jvm.ClassFile.FieldType.object "java/lang/Object")))) ∈ lw_all := lw_g (lw_at lw_m2 173 rfl) rfl
theorem q462 : (Jvm.Cond.methodLink "java/util/ArrayList" (73 : Nat) ({ cls := "jdk/internal/util/ArraysSupport", name := "newLength", desc := "(III)I" } : Jvm.MethodName)) ∈ lw_all := lw_g (lw_at lw_m2 174 rfl) rfl
theorem q472 : (Jvm.Cond.methodLink "java/util/ArrayList" (66 : Nat) ({ cls := "java/util/Arrays", name := "copyOf", desc := "([Ljava/lang/Object;I)[Ljava/lang/Object;" } : Jvm.MethodName)) ∈ lw_all := lw_g (lw_at lw_m2 184 rfl) rfl
theorem q493 : (Jvm.Cond.selects "java/util/ArrayList" ({ cls := "java/lang/Object", name := "getClass", desc := "()Ljava/lang/Class;" } : Jvm.MethodName) ({ cls := "java/lang/Object", name := "getClass", desc := "()Ljava/lang/Class;" } : Jvm.MethodName)) ∈ lw_all := lw_g (lw_at lw_m2 205 rfl) rfl
theorem q507 : (Jvm.Cond.methodLink "java/util/ArrayList" (79 : Nat) ({ cls := "java/lang/Math", name := "max", desc := "(II)I" } : Jvm.MethodName)) ∈ lw_all := lw_g (lw_at lw_m2 219 rfl) rfl
theorem q508 : (Jvm.Cond.classLink "java/util/ArrayList" (7 : Nat) "java/lang/Object") ∈ lw_all := lw_g (lw_at lw_m2 220 rfl) rfl
theorem q592 : (Jvm.Cond.selects "java/util/ArrayList" ({ cls := "java/util/List", name := "remove", desc := "(I)Ljava/lang/Object;" } : Jvm.MethodName) ({ cls := "java/util/ArrayList", name := "remove", desc := "(I)Ljava/lang/Object;" } : Jvm.MethodName)) ∈ lw_all := lw_g (lw_at lw_m3 64 rfl) rfl
theorem q593 : (Jvm.Cond.unhidden "java/util/ArrayList" "remove" "(I)Ljava/lang/Object;") ∈ lw_tbl := lw_at lw_m3 65 rfl
theorem q594 : (Jvm.Cond.instanceMethod ({ cls := "java/util/ArrayList", name := "remove", desc := "(I)Ljava/lang/Object;" } : Jvm.MethodName)) ∈ lw_all := lw_g (lw_at lw_m3 66 rfl) rfl
theorem q595 : (Jvm.Cond.publicMethod ({ cls := "java/util/ArrayList", name := "remove", desc := "(I)Ljava/lang/Object;" } : Jvm.MethodName)) ∈ lw_tbl := lw_at lw_m3 67 rfl
theorem q596 : (Jvm.Cond.code ({ cls := "java/util/ArrayList", name := "remove", desc := "(I)Ljava/lang/Object;" } : Jvm.MethodName) prog_29_method_29_code (4 : Nat) (Option.some (Jvm.ClassFile.FieldType.object "java/lang/Object"))) ∈ lw_all := lw_g (lw_at lw_m3 68 rfl) rfl
theorem q597 : (Jvm.Cond.methodLink "java/util/ArrayList" (144 : Nat) ({ cls := "java/util/ArrayList", name := "fastRemove", desc := "([Ljava/lang/Object;I)V" } : Jvm.MethodName)) ∈ lw_all := lw_g (lw_at lw_m3 69 rfl) rfl
theorem q598 : (Jvm.Cond.privateMethod ({ cls := "java/util/ArrayList", name := "fastRemove", desc := "([Ljava/lang/Object;I)V" } : Jvm.MethodName)) ∈ lw_tbl := lw_at lw_m3 70 rfl
theorem q599 : (Jvm.Cond.instanceMethod ({ cls := "java/util/ArrayList", name := "fastRemove", desc := "([Ljava/lang/Object;I)V" } : Jvm.MethodName)) ∈ lw_all := lw_g (lw_at lw_m3 71 rfl) rfl
theorem q600 : (Jvm.Cond.code ({ cls := "java/util/ArrayList", name := "fastRemove", desc := "([Ljava/lang/Object;I)V" } : Jvm.MethodName) prog_29_method_39_code (4 : Nat) (Option.none : Option Jvm.ClassFile.FieldType)) ∈ lw_all := lw_g (lw_at lw_m3 72 rfl) rfl
theorem q601 : (Jvm.Cond.methodLink "java/util/ArrayList" (112 : Nat) ({ cls := "java/lang/System", name := "arraycopy", desc := "(Ljava/lang/Object;ILjava/lang/Object;II)V" } : Jvm.MethodName)) ∈ lw_all := lw_g (lw_at lw_m3 73 rfl) rfl
theorem q669 : (Jvm.Cond.selects "java/util/ArrayList" ({ cls := "java/util/List", name := "clear", desc := "()V" } : Jvm.MethodName) ({ cls := "java/util/ArrayList", name := "clear", desc := "()V" } : Jvm.MethodName)) ∈ lw_all := lw_g (lw_at lw_m3 141 rfl) rfl
theorem q670 : (Jvm.Cond.unhidden "java/util/ArrayList" "clear" "()V") ∈ lw_tbl := lw_at lw_m3 142 rfl
theorem q671 : (Jvm.Cond.instanceMethod ({ cls := "java/util/ArrayList", name := "clear", desc := "()V" } : Jvm.MethodName)) ∈ lw_all := lw_g (lw_at lw_m3 143 rfl) rfl
theorem q672 : (Jvm.Cond.publicMethod ({ cls := "java/util/ArrayList", name := "clear", desc := "()V" } : Jvm.MethodName)) ∈ lw_tbl := lw_at lw_m3 144 rfl
theorem q673 : (Jvm.Cond.code ({ cls := "java/util/ArrayList", name := "clear", desc := "()V" } : Jvm.MethodName) prog_29_method_40_code (4 : Nat) (Option.none : Option Jvm.ClassFile.FieldType)) ∈ lw_all := lw_g (lw_at lw_m3 145 rfl) rfl
theorem q686 : (Jvm.Cond.selects "java/util/ArrayList" ({ cls := "java/util/List", name := "addAll", desc := "(Ljava/util/Collection;)Z" } : Jvm.MethodName) ({ cls := "java/util/ArrayList", name := "addAll", desc := "(Ljava/util/Collection;)Z" } : Jvm.MethodName)) ∈ lw_all := lw_g (lw_at lw_m3 158 rfl) rfl
theorem q687 : (Jvm.Cond.unhidden "java/util/ArrayList" "addAll" "(Ljava/util/Collection;)Z") ∈ lw_tbl := lw_at lw_m3 159 rfl
theorem q688 : (Jvm.Cond.instanceMethod ({ cls := "java/util/ArrayList", name := "addAll", desc := "(Ljava/util/Collection;)Z" } : Jvm.MethodName)) ∈ lw_all := lw_g (lw_at lw_m3 160 rfl) rfl
theorem q689 : (Jvm.Cond.publicMethod ({ cls := "java/util/ArrayList", name := "addAll", desc := "(Ljava/util/Collection;)Z" } : Jvm.MethodName)) ∈ lw_tbl := lw_at lw_m3 161 rfl
theorem q690 : (Jvm.Cond.code ({ cls := "java/util/ArrayList", name := "addAll", desc := "(Ljava/util/Collection;)Z" } : Jvm.MethodName) prog_29_method_41_code (6 : Nat) (Option.some Jvm.ClassFile.FieldType.boolean)) ∈ lw_all := lw_g (lw_at lw_m3 162 rfl) rfl
theorem q691 : (Jvm.Cond.interfaceEntry "java/util/ArrayList" (42 : Nat)) ∈ lw_tbl := lw_at lw_m3 163 rfl
theorem q692 : (Jvm.Cond.methodLink "java/util/ArrayList" (42 : Nat) ({ cls := "java/util/Collection", name := "toArray", desc := "()[Ljava/lang/Object;" } : Jvm.MethodName)) ∈ lw_all := lw_g (lw_at lw_m3 164 rfl) rfl
theorem q695 : (Jvm.Cond.castable "java/util/ArrayList" "java/util/Collection") ∈ lw_tbl := lw_at lw_m3 167 rfl
theorem q696 : (Jvm.Cond.selects "java/util/ArrayList" ({ cls := "java/util/Collection", name := "toArray", desc := "()[Ljava/lang/Object;" } : Jvm.MethodName) ({ cls := "java/util/ArrayList", name := "toArray", desc := "()[Ljava/lang/Object;" } : Jvm.MethodName)) ∈ lw_all := lw_g (lw_at lw_m3 168 rfl) rfl
theorem q697 : (Jvm.Cond.unhidden "java/util/ArrayList" "toArray" "()[Ljava/lang/Object;") ∈ lw_tbl := lw_at lw_m3 169 rfl
theorem q698 : (Jvm.Cond.instanceMethod ({ cls := "java/util/ArrayList", name := "toArray", desc := "()[Ljava/lang/Object;" } : Jvm.MethodName)) ∈ lw_all := lw_g (lw_at lw_m3 170 rfl) rfl
theorem q699 : (Jvm.Cond.publicMethod ({ cls := "java/util/ArrayList", name := "toArray", desc := "()[Ljava/lang/Object;" } : Jvm.MethodName)) ∈ lw_tbl := lw_at lw_m3 171 rfl
theorem q700 : (Jvm.Cond.code ({ cls := "java/util/ArrayList", name := "toArray", desc := "()[Ljava/lang/Object;" } : Jvm.MethodName) prog_29_method_16_code (1 : Nat) (Option.some (Jvm.ClassFile.FieldType.array (Jvm.ClassFile.FieldType.object "java/lang/Object")))) ∈ lw_all := lw_g (lw_at lw_m3 172 rfl) rfl
theorem q1388 : (Jvm.Cond.castable "java/util/ArrayList" "java/lang/Object") ∈ lw_tbl := lw_at lw_m6 140 rfl
theorem in_J2 : ∀ w ∈ wsJ20, w ∈ lw_all := lw_in wsJ20 [165, 161, 163] (by decide +kernel) (by decide +kernel)
/-! java/lang/Throwable -/
set_option maxRecDepth 100000
def RJ3 : String := "java/lang/Throwable"
def TJ3 : u_T := fun k => match k with
  | 0 => ("java/lang/Throwable", "cause", "Ljava/lang/Throwable;", false)
  | 1 => ("java/lang/Throwable", "stackTrace", "[Ljava/lang/StackTraceElement;", false)
  | 2 => ("java/lang/Throwable", "suppressedExceptions", "Ljava/util/List;", false)
  | 3 => ("java/lang/Throwable", "detailMessage", "Ljava/lang/String;", false)
  | _ => ("java/lang/Throwable", "backtrace", "Ljava/lang/Object;", false)
def tyJ3 : Nat → FieldType := fun k => match k with
  | 0 => .object "java/lang/Throwable"
  | 1 => .array (.object "java/lang/StackTraceElement")
  | 2 => .object "java/util/List"
  | 3 => .object "java/lang/String"
  | _ => .object "java/lang/Object"
abbrev wsJ30 : List Cond := u_ws RJ3 TJ3 5
theorem nmJ3 : ∀ a, a < 5 → ∀ b, b < 5 → a ≠ b → (TJ3 a).2.1 ≠ (TJ3 b).2.1 := by decide +kernel
theorem tyJ3_ok : ∀ k, k < 5 → parseFieldDescriptor (TJ3 k).2.2.1 = some (tyJ3 k) := by decide +kernel
abbrev cJ3_init : ByteArray := prog_26_method_1_code
def yJ3_init : MethodName := ⟨RJ3, "<init>", "()V"⟩
def dkwJ3_init_1 : List UInt8 := [182, 0, 27, 87, 177]
abbrev dktJ3_init_1 : List UInt8 := dkwJ3_init_1 ++ []
def dkwJ3_init_0 : List UInt8 := [42, 183, 0, 1, 42, 42, 181, 0, 7, 42, 178, 0, 13, 181, 0, 17, 42, 178, 0, 20, 181, 0, 24, 42]
abbrev dktJ3_init_0 : List UInt8 := dkwJ3_init_0 ++ dktJ3_init_1
theorem dksJ3_init_0 : cJ3_init.data.toList.drop 0 = dktJ3_init_0 := by decide +kernel
theorem dksJ3_init_1 : cJ3_init.data.toList.drop 24 = dktJ3_init_1 := dk_seg dksJ3_init_0 24 rfl rfl
theorem dJ3_init_0 : decode cJ3_init 0 = .ok (.aload_n 0, 1) := dk_42 (dk_at dksJ3_init_0 0 rfl rfl)
theorem dJ3_init_1 : decode cJ3_init 1 = .ok (.invokespecial 1, 3) := dk_183 0 1 (dk_at dksJ3_init_0 1 rfl rfl)
theorem dJ3_init_4 : decode cJ3_init 4 = .ok (.aload_n 0, 1) := dk_42 (dk_at dksJ3_init_0 4 rfl rfl)
theorem dJ3_init_5 : decode cJ3_init 5 = .ok (.aload_n 0, 1) := dk_42 (dk_at dksJ3_init_0 5 rfl rfl)
theorem dJ3_init_6 : decode cJ3_init 6 = .ok (.putfield 7, 3) := dk_181 0 7 (dk_at dksJ3_init_0 6 rfl rfl)
theorem dJ3_init_9 : decode cJ3_init 9 = .ok (.aload_n 0, 1) := dk_42 (dk_at dksJ3_init_0 9 rfl rfl)
theorem dJ3_init_10 : decode cJ3_init 10 = .ok (.getstatic 13, 3) := dk_178 0 13 (dk_at dksJ3_init_0 10 rfl rfl)
theorem dJ3_init_13 : decode cJ3_init 13 = .ok (.putfield 17, 3) := dk_181 0 17 (dk_at dksJ3_init_0 13 rfl rfl)
theorem dJ3_init_16 : decode cJ3_init 16 = .ok (.aload_n 0, 1) := dk_42 (dk_at dksJ3_init_0 16 rfl rfl)
theorem dJ3_init_17 : decode cJ3_init 17 = .ok (.getstatic 20, 3) := dk_178 0 20 (dk_at dksJ3_init_0 17 rfl rfl)
theorem dJ3_init_20 : decode cJ3_init 20 = .ok (.putfield 24, 3) := dk_181 0 24 (dk_at dksJ3_init_0 20 rfl rfl)
theorem dJ3_init_23 : decode cJ3_init 23 = .ok (.aload_n 0, 1) := dk_42 (dk_at dksJ3_init_0 23 rfl rfl)
theorem dJ3_init_24 : decode cJ3_init 24 = .ok (.invokevirtual 27, 3) := dk_182 0 27 (dk_at dksJ3_init_1 0 rfl rfl)
theorem dJ3_init_27 : decode cJ3_init 27 = .ok (.pop, 1) := dk_87 (dk_at dksJ3_init_1 3 rfl rfl)
theorem dJ3_init_28 : decode cJ3_init 28 = .ok (.return_, 1) := dk_177 (dk_at dksJ3_init_1 4 rfl rfl)
abbrev cJ3_init_2 : ByteArray := prog_26_method_5_code
def yJ3_init_2 : MethodName := ⟨RJ3, "<init>", "(Ljava/lang/String;Ljava/lang/Throwable;ZZ)V"⟩
def dkwJ3_init_2_2 : List UInt8 := [44, 181, 0, 7, 29, 154, 0, 8, 42, 1, 181, 0, 24, 177]
abbrev dktJ3_init_2_2 : List UInt8 := dkwJ3_init_2_2 ++ []
def dkwJ3_init_2_1 : List UInt8 := [21, 4, 153, 0, 11, 42, 182, 0, 27, 87, 167, 0, 8, 42, 1, 181, 0, 17, 42, 43, 181, 0, 31, 42]
abbrev dktJ3_init_2_1 : List UInt8 := dkwJ3_init_2_1 ++ dktJ3_init_2_2
def dkwJ3_init_2_0 : List UInt8 := [42, 183, 0, 1, 42, 42, 181, 0, 7, 42, 178, 0, 13, 181, 0, 17, 42, 178, 0, 20, 181, 0, 24]
abbrev dktJ3_init_2_0 : List UInt8 := dkwJ3_init_2_0 ++ dktJ3_init_2_1
theorem dksJ3_init_2_0 : cJ3_init_2.data.toList.drop 0 = dktJ3_init_2_0 := by decide +kernel
theorem dksJ3_init_2_1 : cJ3_init_2.data.toList.drop 23 = dktJ3_init_2_1 := dk_seg dksJ3_init_2_0 23 rfl rfl
theorem dksJ3_init_2_2 : cJ3_init_2.data.toList.drop 47 = dktJ3_init_2_2 := dk_seg dksJ3_init_2_1 24 rfl rfl
theorem dJ3_init_2_0 : decode cJ3_init_2 0 = .ok (.aload_n 0, 1) := dk_42 (dk_at dksJ3_init_2_0 0 rfl rfl)
theorem dJ3_init_2_1 : decode cJ3_init_2 1 = .ok (.invokespecial 1, 3) := dk_183 0 1 (dk_at dksJ3_init_2_0 1 rfl rfl)
theorem dJ3_init_2_4 : decode cJ3_init_2 4 = .ok (.aload_n 0, 1) := dk_42 (dk_at dksJ3_init_2_0 4 rfl rfl)
theorem dJ3_init_2_5 : decode cJ3_init_2 5 = .ok (.aload_n 0, 1) := dk_42 (dk_at dksJ3_init_2_0 5 rfl rfl)
theorem dJ3_init_2_6 : decode cJ3_init_2 6 = .ok (.putfield 7, 3) := dk_181 0 7 (dk_at dksJ3_init_2_0 6 rfl rfl)
theorem dJ3_init_2_9 : decode cJ3_init_2 9 = .ok (.aload_n 0, 1) := dk_42 (dk_at dksJ3_init_2_0 9 rfl rfl)
theorem dJ3_init_2_10 : decode cJ3_init_2 10 = .ok (.getstatic 13, 3) := dk_178 0 13 (dk_at dksJ3_init_2_0 10 rfl rfl)
theorem dJ3_init_2_13 : decode cJ3_init_2 13 = .ok (.putfield 17, 3) := dk_181 0 17 (dk_at dksJ3_init_2_0 13 rfl rfl)
theorem dJ3_init_2_16 : decode cJ3_init_2 16 = .ok (.aload_n 0, 1) := dk_42 (dk_at dksJ3_init_2_0 16 rfl rfl)
theorem dJ3_init_2_17 : decode cJ3_init_2 17 = .ok (.getstatic 20, 3) := dk_178 0 20 (dk_at dksJ3_init_2_0 17 rfl rfl)
theorem dJ3_init_2_20 : decode cJ3_init_2 20 = .ok (.putfield 24, 3) := dk_181 0 24 (dk_at dksJ3_init_2_0 20 rfl rfl)
theorem dJ3_init_2_23 : decode cJ3_init_2 23 = .ok (.iload 4, 2) := dk_21 4 (dk_at dksJ3_init_2_1 0 rfl rfl)
theorem dJ3_init_2_25 : decode cJ3_init_2 25 = .ok (.ifCond .eq 11, 3) := dk_153 0 11 (dk_at dksJ3_init_2_1 2 rfl rfl)
theorem dJ3_init_2_28 : decode cJ3_init_2 28 = .ok (.aload_n 0, 1) := dk_42 (dk_at dksJ3_init_2_1 5 rfl rfl)
theorem dJ3_init_2_29 : decode cJ3_init_2 29 = .ok (.invokevirtual 27, 3) := dk_182 0 27 (dk_at dksJ3_init_2_1 6 rfl rfl)
theorem dJ3_init_2_32 : decode cJ3_init_2 32 = .ok (.pop, 1) := dk_87 (dk_at dksJ3_init_2_1 9 rfl rfl)
theorem dJ3_init_2_33 : decode cJ3_init_2 33 = .ok (.goto 8, 3) := dk_167 0 8 (dk_at dksJ3_init_2_1 10 rfl rfl)
theorem dJ3_init_2_36 : decode cJ3_init_2 36 = .ok (.aload_n 0, 1) := dk_42 (dk_at dksJ3_init_2_1 13 rfl rfl)
theorem dJ3_init_2_37 : decode cJ3_init_2 37 = .ok (.aconst_null, 1) := dk_1 (dk_at dksJ3_init_2_1 14 rfl rfl)
theorem dJ3_init_2_38 : decode cJ3_init_2 38 = .ok (.putfield 17, 3) := dk_181 0 17 (dk_at dksJ3_init_2_1 15 rfl rfl)
theorem dJ3_init_2_41 : decode cJ3_init_2 41 = .ok (.aload_n 0, 1) := dk_42 (dk_at dksJ3_init_2_1 18 rfl rfl)
theorem dJ3_init_2_42 : decode cJ3_init_2 42 = .ok (.aload_n 1, 1) := dk_43 (dk_at dksJ3_init_2_1 19 rfl rfl)
theorem dJ3_init_2_43 : decode cJ3_init_2 43 = .ok (.putfield 31, 3) := dk_181 0 31 (dk_at dksJ3_init_2_1 20 rfl rfl)
theorem dJ3_init_2_46 : decode cJ3_init_2 46 = .ok (.aload_n 0, 1) := dk_42 (dk_at dksJ3_init_2_1 23 rfl rfl)
theorem dJ3_init_2_47 : decode cJ3_init_2 47 = .ok (.aload_n 2, 1) := dk_44 (dk_at dksJ3_init_2_2 0 rfl rfl)
theorem dJ3_init_2_48 : decode cJ3_init_2 48 = .ok (.putfield 7, 3) := dk_181 0 7 (dk_at dksJ3_init_2_2 1 rfl rfl)
theorem dJ3_init_2_51 : decode cJ3_init_2 51 = .ok (.iload_n 3, 1) := dk_29 (dk_at dksJ3_init_2_2 4 rfl rfl)
theorem dJ3_init_2_52 : decode cJ3_init_2 52 = .ok (.ifCond .ne 8, 3) := dk_154 0 8 (dk_at dksJ3_init_2_2 5 rfl rfl)
theorem dJ3_init_2_55 : decode cJ3_init_2 55 = .ok (.aload_n 0, 1) := dk_42 (dk_at dksJ3_init_2_2 8 rfl rfl)
theorem dJ3_init_2_56 : decode cJ3_init_2 56 = .ok (.aconst_null, 1) := dk_1 (dk_at dksJ3_init_2_2 9 rfl rfl)
theorem dJ3_init_2_57 : decode cJ3_init_2 57 = .ok (.putfield 24, 3) := dk_181 0 24 (dk_at dksJ3_init_2_2 10 rfl rfl)
theorem dJ3_init_2_60 : decode cJ3_init_2 60 = .ok (.return_, 1) := dk_177 (dk_at dksJ3_init_2_2 13 rfl rfl)
abbrev cJ3_init_3 : ByteArray := prog_26_method_2_code
def yJ3_init_3 : MethodName := ⟨RJ3, "<init>", "(Ljava/lang/String;)V"⟩
def dkwJ3_init_3_1 : List UInt8 := [182, 0, 27, 87, 42, 43, 181, 0, 31, 177]
abbrev dktJ3_init_3_1 : List UInt8 := dkwJ3_init_3_1 ++ []
def dkwJ3_init_3_0 : List UInt8 := [42, 183, 0, 1, 42, 42, 181, 0, 7, 42, 178, 0, 13, 181, 0, 17, 42, 178, 0, 20, 181, 0, 24, 42]
abbrev dktJ3_init_3_0 : List UInt8 := dkwJ3_init_3_0 ++ dktJ3_init_3_1
theorem dksJ3_init_3_0 : cJ3_init_3.data.toList.drop 0 = dktJ3_init_3_0 := by decide +kernel
theorem dksJ3_init_3_1 : cJ3_init_3.data.toList.drop 24 = dktJ3_init_3_1 := dk_seg dksJ3_init_3_0 24 rfl rfl
theorem dJ3_init_3_0 : decode cJ3_init_3 0 = .ok (.aload_n 0, 1) := dk_42 (dk_at dksJ3_init_3_0 0 rfl rfl)
theorem dJ3_init_3_1 : decode cJ3_init_3 1 = .ok (.invokespecial 1, 3) := dk_183 0 1 (dk_at dksJ3_init_3_0 1 rfl rfl)
theorem dJ3_init_3_4 : decode cJ3_init_3 4 = .ok (.aload_n 0, 1) := dk_42 (dk_at dksJ3_init_3_0 4 rfl rfl)
theorem dJ3_init_3_5 : decode cJ3_init_3 5 = .ok (.aload_n 0, 1) := dk_42 (dk_at dksJ3_init_3_0 5 rfl rfl)
theorem dJ3_init_3_6 : decode cJ3_init_3 6 = .ok (.putfield 7, 3) := dk_181 0 7 (dk_at dksJ3_init_3_0 6 rfl rfl)
theorem dJ3_init_3_9 : decode cJ3_init_3 9 = .ok (.aload_n 0, 1) := dk_42 (dk_at dksJ3_init_3_0 9 rfl rfl)
theorem dJ3_init_3_10 : decode cJ3_init_3 10 = .ok (.getstatic 13, 3) := dk_178 0 13 (dk_at dksJ3_init_3_0 10 rfl rfl)
theorem dJ3_init_3_13 : decode cJ3_init_3 13 = .ok (.putfield 17, 3) := dk_181 0 17 (dk_at dksJ3_init_3_0 13 rfl rfl)
theorem dJ3_init_3_16 : decode cJ3_init_3 16 = .ok (.aload_n 0, 1) := dk_42 (dk_at dksJ3_init_3_0 16 rfl rfl)
theorem dJ3_init_3_17 : decode cJ3_init_3 17 = .ok (.getstatic 20, 3) := dk_178 0 20 (dk_at dksJ3_init_3_0 17 rfl rfl)
theorem dJ3_init_3_20 : decode cJ3_init_3 20 = .ok (.putfield 24, 3) := dk_181 0 24 (dk_at dksJ3_init_3_0 20 rfl rfl)
theorem dJ3_init_3_23 : decode cJ3_init_3 23 = .ok (.aload_n 0, 1) := dk_42 (dk_at dksJ3_init_3_0 23 rfl rfl)
theorem dJ3_init_3_24 : decode cJ3_init_3 24 = .ok (.invokevirtual 27, 3) := dk_182 0 27 (dk_at dksJ3_init_3_1 0 rfl rfl)
theorem dJ3_init_3_27 : decode cJ3_init_3 27 = .ok (.pop, 1) := dk_87 (dk_at dksJ3_init_3_1 3 rfl rfl)
theorem dJ3_init_3_28 : decode cJ3_init_3 28 = .ok (.aload_n 0, 1) := dk_42 (dk_at dksJ3_init_3_1 4 rfl rfl)
theorem dJ3_init_3_29 : decode cJ3_init_3 29 = .ok (.aload_n 1, 1) := dk_43 (dk_at dksJ3_init_3_1 5 rfl rfl)
theorem dJ3_init_3_30 : decode cJ3_init_3 30 = .ok (.putfield 31, 3) := dk_181 0 31 (dk_at dksJ3_init_3_1 6 rfl rfl)
theorem dJ3_init_3_33 : decode cJ3_init_3 33 = .ok (.return_, 1) := dk_177 (dk_at dksJ3_init_3_1 9 rfl rfl)
theorem q55 : (Jvm.Cond.initialized "java/lang/Throwable") ∈ lw_all := lw_g (lw_at lw_m1 7 rfl) rfl
theorem q173 : (Jvm.Cond.declares ({ cls := "java/lang/Throwable", name := "<init>", desc := "()V" } : Jvm.MethodName)) ∈ lw_tbl := lw_at lw_m1 125 rfl
theorem q174 : (Jvm.Cond.declares ({ cls := "java/lang/Throwable", name := "<init>", desc := "(Ljava/lang/String;)V" } : Jvm.MethodName)) ∈ lw_tbl := lw_at lw_m1 126 rfl
theorem q178 : (Jvm.Cond.lays "java/lang/Throwable" "java/lang/Throwable" "cause" "Ljava/lang/Throwable;") ∈ lw_all := lw_g (lw_at lw_m1 130 rfl) rfl
theorem q180 : (Jvm.Cond.lays "java/lang/Throwable" "java/lang/Throwable" "stackTrace" "[Ljava/lang/StackTraceElement;") ∈ lw_all := lw_g (lw_at lw_m1 132 rfl) rfl
theorem q182 : (Jvm.Cond.lays "java/lang/Throwable" "java/lang/Throwable" "suppressedExceptions" "Ljava/util/List;") ∈ lw_all := lw_g (lw_at lw_m1 134 rfl) rfl
theorem q184 : (Jvm.Cond.lays "java/lang/Throwable" "java/lang/Throwable" "detailMessage" "Ljava/lang/String;") ∈ lw_all := lw_g (lw_at lw_m1 136 rfl) rfl
theorem q186 : (Jvm.Cond.lays "java/lang/Throwable" "java/lang/Throwable" "backtrace" "Ljava/lang/Object;") ∈ lw_all := lw_g (lw_at lw_m1 138 rfl) rfl
theorem q187 : (Jvm.Cond.fieldLink "java/lang/Throwable" (198 : Nat) "java/lang/Throwable" "backtrace" "Ljava/lang/Object;") ∈ lw_all := lw_g (lw_at lw_m1 139 rfl) rfl
theorem q188 : (Jvm.Cond.superclass "java/lang/Throwable" "java/lang/Object") ∈ lw_all := lw_g (lw_at lw_m1 140 rfl) rfl
theorem q189 : (Jvm.Cond.instanceMethod ({ cls := "java/lang/Throwable", name := "<init>", desc := "()V" } : Jvm.MethodName)) ∈ lw_all := lw_g (lw_at lw_m1 141 rfl) rfl
theorem q190 : (Jvm.Cond.code ({ cls := "java/lang/Throwable", name := "<init>", desc := "()V" } : Jvm.MethodName) prog_26_method_1_code (1 : Nat) (Option.none : Option Jvm.ClassFile.FieldType)) ∈ lw_all := lw_g (lw_at lw_m1 142 rfl) rfl
theorem q191 : (Jvm.Cond.methodLink "java/lang/Throwable" (1 : Nat) ({ cls := "java/lang/Object", name := "<init>", desc := "()V" } : Jvm.MethodName)) ∈ lw_all := lw_g (lw_at lw_m1 143 rfl) rfl
theorem q192 : (Jvm.Cond.fieldLink "java/lang/Throwable" (13 : Nat) "java/lang/Throwable" "UNASSIGNED_STACK" "[Ljava/lang/StackTraceElement;") ∈ lw_all := lw_g (lw_at lw_m1 144 rfl) rfl
theorem q193 : (Jvm.Cond.laysStatic "java/lang/Throwable" "UNASSIGNED_STACK" "[Ljava/lang/StackTraceElement;") ∈ lw_tbl := lw_at lw_m1 145 rfl
theorem q194 : (Jvm.Cond.fieldLink "java/lang/Throwable" (20 : Nat) "java/lang/Throwable" "SUPPRESSED_SENTINEL" "Ljava/util/List;") ∈ lw_all := lw_g (lw_at lw_m1 146 rfl) rfl
theorem q195 : (Jvm.Cond.laysStatic "java/lang/Throwable" "SUPPRESSED_SENTINEL" "Ljava/util/List;") ∈ lw_tbl := lw_at lw_m1 147 rfl
theorem q196 : (Jvm.Cond.methodLink "java/lang/Throwable" (27 : Nat) ({ cls := "java/lang/Throwable", name := "fillInStackTrace", desc := "()Ljava/lang/Throwable;" } : Jvm.MethodName)) ∈ lw_all := lw_g (lw_at lw_m1 148 rfl) rfl
theorem q197 : (Jvm.Cond.instanceMethod ({ cls := "java/lang/Throwable", name := "fillInStackTrace", desc := "()Ljava/lang/Throwable;" } : Jvm.MethodName)) ∈ lw_all := lw_g (lw_at lw_m1 149 rfl) rfl
theorem q198 : (Jvm.Cond.sameMethod "java/lang/Throwable" "java/lang/Throwable" "fillInStackTrace" "()Ljava/lang/Throwable;") ∈ lw_all := lw_g (lw_at lw_m1 150 rfl) rfl
theorem q213 : (Jvm.Cond.declares ({ cls := "java/lang/Throwable", name := "fillInStackTrace", desc := "()Ljava/lang/Throwable;" } : Jvm.MethodName)) ∈ lw_tbl := lw_at lw_m1 165 rfl
theorem q217 : (Jvm.Cond.codeSync ({ cls := "java/lang/Throwable", name := "fillInStackTrace", desc := "()Ljava/lang/Throwable;" } : Jvm.MethodName) prog_26_method_18_code (1 : Nat) (Option.some (Jvm.ClassFile.FieldType.object "java/lang/Throwable"))) ∈ lw_all := lw_g (lw_at lw_m1 169 rfl) rfl
theorem q218 : (Jvm.Cond.methodLink "java/lang/Throwable" (202 : Nat) ({ cls := "java/lang/Throwable", name := "fillInStackTrace", desc := "(I)Ljava/lang/Throwable;" } : Jvm.MethodName)) ∈ lw_all := lw_g (lw_at lw_m1 170 rfl) rfl
theorem q219 : (Jvm.Cond.privateMethod ({ cls := "java/lang/Throwable", name := "fillInStackTrace", desc := "(I)Ljava/lang/Throwable;" } : Jvm.MethodName)) ∈ lw_tbl := lw_at lw_m1 171 rfl
theorem q220 : (Jvm.Cond.instanceMethod ({ cls := "java/lang/Throwable", name := "fillInStackTrace", desc := "(I)Ljava/lang/Throwable;" } : Jvm.MethodName)) ∈ lw_all := lw_g (lw_at lw_m1 172 rfl) rfl
theorem q221 : (Jvm.Cond.instantiable "java/lang/Throwable" (6 : Nat)) ∈ lw_all := lw_g (lw_at lw_m1 173 rfl) rfl
theorem q222 : (Jvm.Cond.native ({ cls := "java/lang/Throwable", name := "fillInStackTrace", desc := "(I)Ljava/lang/Throwable;" } : Jvm.MethodName)) ∈ lw_all := lw_g (lw_at lw_m1 174 rfl) rfl
theorem q230 : (Jvm.Cond.instanceMethod ({ cls := "java/lang/Throwable", name := "<init>", desc := "(Ljava/lang/String;Ljava/lang/Throwable;ZZ)V" } : Jvm.MethodName)) ∈ lw_all := lw_g (lw_at lw_m1 182 rfl) rfl
theorem q231 : (Jvm.Cond.code ({ cls := "java/lang/Throwable", name := "<init>", desc := "(Ljava/lang/String;Ljava/lang/Throwable;ZZ)V" } : Jvm.MethodName) prog_26_method_5_code (5 : Nat) (Option.none : Option Jvm.ClassFile.FieldType)) ∈ lw_all := lw_g (lw_at lw_m1 183 rfl) rfl
theorem q233 : (Jvm.Cond.fieldLink "java/lang/Throwable" (198 : Nat) "java/lang/Throwable" "backtrace" "Ljava/lang/Object;") ∈ lw_all := lw_g (lw_at lw_m1 185 rfl) rfl
theorem q234 : (Jvm.Cond.fieldLink "java/lang/Throwable" (31 : Nat) "java/lang/Throwable" "detailMessage" "Ljava/lang/String;") ∈ lw_all := lw_g (lw_at lw_m1 186 rfl) rfl
theorem q235 : (Jvm.Cond.fieldLink "java/lang/Throwable" (7 : Nat) "java/lang/Throwable" "cause" "Ljava/lang/Throwable;") ∈ lw_all := lw_g (lw_at lw_m1 187 rfl) rfl
theorem q236 : (Jvm.Cond.fieldLink "java/lang/Throwable" (17 : Nat) "java/lang/Throwable" "stackTrace" "[Ljava/lang/StackTraceElement;") ∈ lw_all := lw_g (lw_at lw_m1 188 rfl) rfl
theorem q237 : (Jvm.Cond.fieldLink "java/lang/Throwable" (24 : Nat) "java/lang/Throwable" "suppressedExceptions" "Ljava/util/List;") ∈ lw_all := lw_g (lw_at lw_m1 189 rfl) rfl
theorem q240 : (Jvm.Cond.soleField "java/lang/Throwable" "backtrace") ∈ lw_all := lw_g (lw_at lw_m1 192 rfl) rfl
theorem q241 : (Jvm.Cond.soleField "java/lang/Throwable" "detailMessage") ∈ lw_all := lw_g (lw_at lw_m1 193 rfl) rfl
theorem q242 : (Jvm.Cond.soleField "java/lang/Throwable" "cause") ∈ lw_all := lw_g (lw_at lw_m1 194 rfl) rfl
theorem q243 : (Jvm.Cond.soleField "java/lang/Throwable" "stackTrace") ∈ lw_all := lw_g (lw_at lw_m1 195 rfl) rfl
theorem q245 : (Jvm.Cond.soleField "java/lang/Throwable" "depth") ∈ lw_all := lw_g (lw_at lw_m1 197 rfl) rfl
theorem q246 : (Jvm.Cond.soleField "java/lang/Throwable" "suppressedExceptions") ∈ lw_all := lw_g (lw_at lw_m1 198 rfl) rfl
theorem q524 : (Jvm.Cond.instanceMethod ({ cls := "java/lang/Throwable", name := "<init>", desc := "(Ljava/lang/String;)V" } : Jvm.MethodName)) ∈ lw_all := lw_g (lw_at lw_m2 236 rfl) rfl
theorem q525 : (Jvm.Cond.code ({ cls := "java/lang/Throwable", name := "<init>", desc := "(Ljava/lang/String;)V" } : Jvm.MethodName) prog_26_method_2_code (2 : Nat) (Option.none : Option Jvm.ClassFile.FieldType)) ∈ lw_all := lw_g (lw_at lw_m2 237 rfl) rfl
theorem q1378 : (Jvm.Cond.sameMethod "java/lang/Throwable" "java/lang/Throwable" "fillInStackTrace" "(I)Ljava/lang/Throwable;") ∈ lw_all := lw_g (lw_at lw_m6 130 rfl) rfl
theorem q1400 : (Jvm.Cond.castable "java/lang/Throwable" "java/lang/Object") ∈ lw_tbl := lw_at lw_m6 152 rfl
theorem in_J3 : ∀ w ∈ wsJ30, w ∈ lw_all := lw_in wsJ30 [178, 180, 182, 184, 186] (by decide +kernel) (by decide +kernel)
/-! java/lang/Exception -/
set_option maxRecDepth 100000
def RJ4 : String := "java/lang/Exception"
abbrev cJ4_init : ByteArray := prog_17_method_5_code
def yJ4_init : MethodName := ⟨RJ4, "<init>", "(Ljava/lang/String;Ljava/lang/Throwable;ZZ)V"⟩
def dkwJ4_init_0 : List UInt8 := [42, 43, 44, 29, 21, 4, 183, 0, 16, 177]
abbrev dktJ4_init_0 : List UInt8 := dkwJ4_init_0 ++ []
theorem dksJ4_init_0 : cJ4_init.data.toList.drop 0 = dktJ4_init_0 := by decide +kernel
theorem dJ4_init_0 : decode cJ4_init 0 = .ok (.aload_n 0, 1) := dk_42 (dk_at dksJ4_init_0 0 rfl rfl)
theorem dJ4_init_1 : decode cJ4_init 1 = .ok (.aload_n 1, 1) := dk_43 (dk_at dksJ4_init_0 1 rfl rfl)
theorem dJ4_init_2 : decode cJ4_init 2 = .ok (.aload_n 2, 1) := dk_44 (dk_at dksJ4_init_0 2 rfl rfl)
theorem dJ4_init_3 : decode cJ4_init 3 = .ok (.iload_n 3, 1) := dk_29 (dk_at dksJ4_init_0 3 rfl rfl)
theorem dJ4_init_4 : decode cJ4_init 4 = .ok (.iload 4, 2) := dk_21 4 (dk_at dksJ4_init_0 4 rfl rfl)
theorem dJ4_init_6 : decode cJ4_init 6 = .ok (.invokespecial 16, 3) := dk_183 0 16 (dk_at dksJ4_init_0 6 rfl rfl)
theorem dJ4_init_9 : decode cJ4_init 9 = .ok (.return_, 1) := dk_177 (dk_at dksJ4_init_0 9 rfl rfl)
abbrev cJ4_init_2 : ByteArray := prog_17_method_2_code
def yJ4_init_2 : MethodName := ⟨RJ4, "<init>", "(Ljava/lang/String;)V"⟩
def dkwJ4_init_2_0 : List UInt8 := [42, 43, 183, 0, 7, 177]
abbrev dktJ4_init_2_0 : List UInt8 := dkwJ4_init_2_0 ++ []
theorem dksJ4_init_2_0 : cJ4_init_2.data.toList.drop 0 = dktJ4_init_2_0 := by decide +kernel
theorem dJ4_init_2_0 : decode cJ4_init_2 0 = .ok (.aload_n 0, 1) := dk_42 (dk_at dksJ4_init_2_0 0 rfl rfl)
theorem dJ4_init_2_1 : decode cJ4_init_2 1 = .ok (.aload_n 1, 1) := dk_43 (dk_at dksJ4_init_2_0 1 rfl rfl)
theorem dJ4_init_2_2 : decode cJ4_init_2 2 = .ok (.invokespecial 7, 3) := dk_183 0 7 (dk_at dksJ4_init_2_0 2 rfl rfl)
theorem dJ4_init_2_5 : decode cJ4_init_2 5 = .ok (.return_, 1) := dk_177 (dk_at dksJ4_init_2_0 5 rfl rfl)
abbrev cJ4_init_3 : ByteArray := prog_17_method_1_code
def yJ4_init_3 : MethodName := ⟨RJ4, "<init>", "()V"⟩
theorem dJ4_init_3_0 : decode cJ4_init_3 0 = .ok (.aload_n 0, 1) := by decide +kernel
theorem dJ4_init_3_1 : decode cJ4_init_3 1 = .ok (.invokespecial 1, 3) := by decide +kernel
theorem dJ4_init_3_4 : decode cJ4_init_3 4 = .ok (.return_, 1) := by decide +kernel
theorem q56 : (Jvm.Cond.initialized "java/lang/Exception") ∈ lw_all := lw_g (lw_at lw_m1 8 rfl) rfl
theorem q171 : (Jvm.Cond.declares ({ cls := "java/lang/Exception", name := "<init>", desc := "()V" } : Jvm.MethodName)) ∈ lw_tbl := lw_at lw_m1 123 rfl
theorem q172 : (Jvm.Cond.declares ({ cls := "java/lang/Exception", name := "<init>", desc := "(Ljava/lang/String;)V" } : Jvm.MethodName)) ∈ lw_tbl := lw_at lw_m1 124 rfl
theorem q216 : (Jvm.Cond.superclass "java/lang/Exception" "java/lang/Throwable") ∈ lw_all := lw_g (lw_at lw_m1 168 rfl) rfl
theorem q227 : (Jvm.Cond.instanceMethod ({ cls := "java/lang/Exception", name := "<init>", desc := "(Ljava/lang/String;Ljava/lang/Throwable;ZZ)V" } : Jvm.MethodName)) ∈ lw_all := lw_g (lw_at lw_m1 179 rfl) rfl
theorem q228 : (Jvm.Cond.code ({ cls := "java/lang/Exception", name := "<init>", desc := "(Ljava/lang/String;Ljava/lang/Throwable;ZZ)V" } : Jvm.MethodName) prog_17_method_5_code (5 : Nat) (Option.none : Option Jvm.ClassFile.FieldType)) ∈ lw_all := lw_g (lw_at lw_m1 180 rfl) rfl
theorem q229 : (Jvm.Cond.methodLink "java/lang/Exception" (16 : Nat) ({ cls := "java/lang/Throwable", name := "<init>", desc := "(Ljava/lang/String;Ljava/lang/Throwable;ZZ)V" } : Jvm.MethodName)) ∈ lw_all := lw_g (lw_at lw_m1 181 rfl) rfl
theorem q521 : (Jvm.Cond.instanceMethod ({ cls := "java/lang/Exception", name := "<init>", desc := "(Ljava/lang/String;)V" } : Jvm.MethodName)) ∈ lw_all := lw_g (lw_at lw_m2 233 rfl) rfl
theorem q522 : (Jvm.Cond.code ({ cls := "java/lang/Exception", name := "<init>", desc := "(Ljava/lang/String;)V" } : Jvm.MethodName) prog_17_method_2_code (2 : Nat) (Option.none : Option Jvm.ClassFile.FieldType)) ∈ lw_all := lw_g (lw_at lw_m2 234 rfl) rfl
theorem q523 : (Jvm.Cond.methodLink "java/lang/Exception" (7 : Nat) ({ cls := "java/lang/Throwable", name := "<init>", desc := "(Ljava/lang/String;)V" } : Jvm.MethodName)) ∈ lw_all := lw_g (lw_at lw_m2 235 rfl) rfl
theorem q953 : (Jvm.Cond.instanceMethod ({ cls := "java/lang/Exception", name := "<init>", desc := "()V" } : Jvm.MethodName)) ∈ lw_all := lw_g (lw_at lw_m4 185 rfl) rfl
theorem q954 : (Jvm.Cond.code ({ cls := "java/lang/Exception", name := "<init>", desc := "()V" } : Jvm.MethodName) prog_17_method_1_code (1 : Nat) (Option.none : Option Jvm.ClassFile.FieldType)) ∈ lw_all := lw_g (lw_at lw_m4 186 rfl) rfl
theorem q955 : (Jvm.Cond.methodLink "java/lang/Exception" (1 : Nat) ({ cls := "java/lang/Throwable", name := "<init>", desc := "()V" } : Jvm.MethodName)) ∈ lw_all := lw_g (lw_at lw_m4 187 rfl) rfl
/-! java/util/Objects -/
set_option maxRecDepth 100000
def RJ5 : String := "java/util/Objects"
abbrev cJ5_checkIndex : ByteArray := prog_33_method_17_code
def yJ5_checkIndex : MethodName := ⟨RJ5, "checkIndex", "(II)I"⟩
def dkwJ5_checkIndex_0 : List UInt8 := [26, 27, 1, 184, 0, 105, 172]
abbrev dktJ5_checkIndex_0 : List UInt8 := dkwJ5_checkIndex_0 ++ []
theorem dksJ5_checkIndex_0 : cJ5_checkIndex.data.toList.drop 0 = dktJ5_checkIndex_0 := by decide +kernel
theorem dJ5_checkIndex_0 : decode cJ5_checkIndex 0 = .ok (.iload_n 0, 1) := dk_26 (dk_at dksJ5_checkIndex_0 0 rfl rfl)
theorem dJ5_checkIndex_1 : decode cJ5_checkIndex 1 = .ok (.iload_n 1, 1) := dk_27 (dk_at dksJ5_checkIndex_0 1 rfl rfl)
theorem dJ5_checkIndex_2 : decode cJ5_checkIndex 2 = .ok (.aconst_null, 1) := dk_1 (dk_at dksJ5_checkIndex_0 2 rfl rfl)
theorem dJ5_checkIndex_3 : decode cJ5_checkIndex 3 = .ok (.invokestatic 105, 3) := dk_184 0 105 (dk_at dksJ5_checkIndex_0 3 rfl rfl)
theorem dJ5_checkIndex_6 : decode cJ5_checkIndex 6 = .ok (.ireturn, 1) := dk_172 (dk_at dksJ5_checkIndex_0 6 rfl rfl)
theorem q61 : (Jvm.Cond.initialized "java/util/Objects") ∈ lw_all := lw_g (lw_at lw_m1 13 rfl) rfl
theorem q401 : (Jvm.Cond.static ({ cls := "java/util/Objects", name := "checkIndex", desc := "(II)I" } : Jvm.MethodName)) ∈ lw_all := lw_g (lw_at lw_m2 113 rfl) rfl
theorem q402 : (Jvm.Cond.code ({ cls := "java/util/Objects", name := "checkIndex", desc := "(II)I" } : Jvm.MethodName) prog_33_method_17_code (2 : Nat) (Option.some Jvm.ClassFile.FieldType.int)) ∈ lw_all := lw_g (lw_at lw_m2 114 rfl) rfl
theorem q403 : (Jvm.Cond.methodLink "java/util/Objects" (105 : Nat) ({ cls := "jdk/internal/util/Preconditions", name := "checkIndex", desc := "(IILjava/util/function/BiFunction;)I" } : Jvm.MethodName)) ∈ lw_all := lw_g (lw_at lw_m2 115 rfl) rfl
/-! jdk/internal/util/Preconditions -/
set_option maxRecDepth 100000
def RJ6 : String := "jdk/internal/util/Preconditions"
abbrev cJ6_checkIndex : ByteArray := prog_37_method_11_code
def yJ6_checkIndex : MethodName := ⟨RJ6, "checkIndex", "(IILjava/util/function/BiFunction;)I"⟩
def dkwJ6_checkIndex_0 : List UInt8 := [26, 155, 0, 8, 26, 27, 161, 0, 10, 44, 26, 27, 184, 0, 95, 191, 26, 172]
abbrev dktJ6_checkIndex_0 : List UInt8 := dkwJ6_checkIndex_0 ++ []
theorem dksJ6_checkIndex_0 : cJ6_checkIndex.data.toList.drop 0 = dktJ6_checkIndex_0 := by decide +kernel
theorem dJ6_checkIndex_0 : decode cJ6_checkIndex 0 = .ok (.iload_n 0, 1) := dk_26 (dk_at dksJ6_checkIndex_0 0 rfl rfl)
theorem dJ6_checkIndex_1 : decode cJ6_checkIndex 1 = .ok (.ifCond .lt 8, 3) := dk_155 0 8 (dk_at dksJ6_checkIndex_0 1 rfl rfl)
theorem dJ6_checkIndex_4 : decode cJ6_checkIndex 4 = .ok (.iload_n 0, 1) := dk_26 (dk_at dksJ6_checkIndex_0 4 rfl rfl)
theorem dJ6_checkIndex_5 : decode cJ6_checkIndex 5 = .ok (.iload_n 1, 1) := dk_27 (dk_at dksJ6_checkIndex_0 5 rfl rfl)
theorem dJ6_checkIndex_6 : decode cJ6_checkIndex 6 = .ok (.if_icmp .lt 10, 3) := dk_161 0 10 (dk_at dksJ6_checkIndex_0 6 rfl rfl)
theorem dJ6_checkIndex_9 : decode cJ6_checkIndex 9 = .ok (.aload_n 2, 1) := dk_44 (dk_at dksJ6_checkIndex_0 9 rfl rfl)
theorem dJ6_checkIndex_10 : decode cJ6_checkIndex 10 = .ok (.iload_n 0, 1) := dk_26 (dk_at dksJ6_checkIndex_0 10 rfl rfl)
theorem dJ6_checkIndex_11 : decode cJ6_checkIndex 11 = .ok (.iload_n 1, 1) := dk_27 (dk_at dksJ6_checkIndex_0 11 rfl rfl)
theorem dJ6_checkIndex_12 : decode cJ6_checkIndex 12 = .ok (.invokestatic 95, 3) := dk_184 0 95 (dk_at dksJ6_checkIndex_0 12 rfl rfl)
theorem dJ6_checkIndex_15 : decode cJ6_checkIndex 15 = .ok (.athrow, 1) := dk_191 (dk_at dksJ6_checkIndex_0 15 rfl rfl)
theorem dJ6_checkIndex_16 : decode cJ6_checkIndex 16 = .ok (.iload_n 0, 1) := dk_26 (dk_at dksJ6_checkIndex_0 16 rfl rfl)
theorem dJ6_checkIndex_17 : decode cJ6_checkIndex 17 = .ok (.ireturn, 1) := dk_172 (dk_at dksJ6_checkIndex_0 17 rfl rfl)
theorem q62 : (Jvm.Cond.initialized "jdk/internal/util/Preconditions") ∈ lw_all := lw_g (lw_at lw_m1 14 rfl) rfl
theorem q404 : (Jvm.Cond.static ({ cls := "jdk/internal/util/Preconditions", name := "checkIndex", desc := "(IILjava/util/function/BiFunction;)I" } : Jvm.MethodName)) ∈ lw_all := lw_g (lw_at lw_m2 116 rfl) rfl
theorem q405 : (Jvm.Cond.code ({ cls := "jdk/internal/util/Preconditions", name := "checkIndex", desc := "(IILjava/util/function/BiFunction;)I" } : Jvm.MethodName) prog_37_method_11_code (3 : Nat) (Option.some Jvm.ClassFile.FieldType.int)) ∈ lw_all := lw_g (lw_at lw_m2 117 rfl) rfl
/-! jdk/internal/util/ArraysSupport -/
set_option maxRecDepth 100000
def RJ7 : String := "jdk/internal/util/ArraysSupport"
abbrev cJ7_newLength : ByteArray := prog_36_method_27_code
def yJ7_newLength : MethodName := ⟨RJ7, "newLength", "(III)I"⟩
def dkwJ7_newLength_1 : List UInt8 := [184, 0, 201, 172]
abbrev dktJ7_newLength_1 : List UInt8 := dkwJ7_newLength_1 ++ []
def dkwJ7_newLength_0 : List UInt8 := [26, 27, 28, 184, 0, 194, 96, 62, 3, 29, 162, 0, 11, 29, 18, 200, 163, 0, 5, 29, 172, 26, 27]
abbrev dktJ7_newLength_0 : List UInt8 := dkwJ7_newLength_0 ++ dktJ7_newLength_1
theorem dksJ7_newLength_0 : cJ7_newLength.data.toList.drop 0 = dktJ7_newLength_0 := by decide +kernel
theorem dksJ7_newLength_1 : cJ7_newLength.data.toList.drop 23 = dktJ7_newLength_1 := dk_seg dksJ7_newLength_0 23 rfl rfl
theorem dJ7_newLength_0 : decode cJ7_newLength 0 = .ok (.iload_n 0, 1) := dk_26 (dk_at dksJ7_newLength_0 0 rfl rfl)
theorem dJ7_newLength_1 : decode cJ7_newLength 1 = .ok (.iload_n 1, 1) := dk_27 (dk_at dksJ7_newLength_0 1 rfl rfl)
theorem dJ7_newLength_2 : decode cJ7_newLength 2 = .ok (.iload_n 2, 1) := dk_28 (dk_at dksJ7_newLength_0 2 rfl rfl)
theorem dJ7_newLength_3 : decode cJ7_newLength 3 = .ok (.invokestatic 194, 3) := dk_184 0 194 (dk_at dksJ7_newLength_0 3 rfl rfl)
theorem dJ7_newLength_6 : decode cJ7_newLength 6 = .ok (.iadd, 1) := dk_96 (dk_at dksJ7_newLength_0 6 rfl rfl)
theorem dJ7_newLength_7 : decode cJ7_newLength 7 = .ok (.istore_n 3, 1) := dk_62 (dk_at dksJ7_newLength_0 7 rfl rfl)
theorem dJ7_newLength_8 : decode cJ7_newLength 8 = .ok (.iconst 0, 1) := dk_3 (dk_at dksJ7_newLength_0 8 rfl rfl)
theorem dJ7_newLength_9 : decode cJ7_newLength 9 = .ok (.iload_n 3, 1) := dk_29 (dk_at dksJ7_newLength_0 9 rfl rfl)
theorem dJ7_newLength_10 : decode cJ7_newLength 10 = .ok (.if_icmp .ge 11, 3) := dk_162 0 11 (dk_at dksJ7_newLength_0 10 rfl rfl)
theorem dJ7_newLength_13 : decode cJ7_newLength 13 = .ok (.iload_n 3, 1) := dk_29 (dk_at dksJ7_newLength_0 13 rfl rfl)
theorem dJ7_newLength_14 : decode cJ7_newLength 14 = .ok (.ldc 200, 2) := dk_18 200 (dk_at dksJ7_newLength_0 14 rfl rfl)
theorem dJ7_newLength_16 : decode cJ7_newLength 16 = .ok (.if_icmp .gt 5, 3) := dk_163 0 5 (dk_at dksJ7_newLength_0 16 rfl rfl)
theorem dJ7_newLength_19 : decode cJ7_newLength 19 = .ok (.iload_n 3, 1) := dk_29 (dk_at dksJ7_newLength_0 19 rfl rfl)
theorem dJ7_newLength_20 : decode cJ7_newLength 20 = .ok (.ireturn, 1) := dk_172 (dk_at dksJ7_newLength_0 20 rfl rfl)
theorem dJ7_newLength_21 : decode cJ7_newLength 21 = .ok (.iload_n 0, 1) := dk_26 (dk_at dksJ7_newLength_0 21 rfl rfl)
theorem dJ7_newLength_22 : decode cJ7_newLength 22 = .ok (.iload_n 1, 1) := dk_27 (dk_at dksJ7_newLength_0 22 rfl rfl)
theorem dJ7_newLength_23 : decode cJ7_newLength 23 = .ok (.invokestatic 201, 3) := dk_184 0 201 (dk_at dksJ7_newLength_1 0 rfl rfl)
theorem dJ7_newLength_26 : decode cJ7_newLength 26 = .ok (.ireturn, 1) := dk_172 (dk_at dksJ7_newLength_1 3 rfl rfl)
abbrev cJ7_hugeLength : ByteArray := prog_36_method_28_code
def yJ7_hugeLength : MethodName := ⟨RJ7, "hugeLength", "(II)I"⟩
def dkwJ7_hugeLength_2 : List UInt8 := [191, 28, 18, 200, 163, 0, 6, 18, 200, 172, 28, 172]
abbrev dktJ7_hugeLength_2 : List UInt8 := dkwJ7_hugeLength_2 ++ []
def dkwJ7_hugeLength_1 : List UInt8 := [26, 182, 0, 98, 18, 208, 182, 0, 94, 27, 182, 0, 98, 18, 210, 182, 0, 94, 182, 0, 101, 183, 0, 212]
abbrev dktJ7_hugeLength_1 : List UInt8 := dkwJ7_hugeLength_1 ++ dktJ7_hugeLength_2
def dkwJ7_hugeLength_0 : List UInt8 := [26, 27, 96, 61, 28, 156, 0, 44, 187, 0, 204, 89, 187, 0, 89, 89, 183, 0, 91, 18, 206, 182, 0, 94]
abbrev dktJ7_hugeLength_0 : List UInt8 := dkwJ7_hugeLength_0 ++ dktJ7_hugeLength_1
theorem dksJ7_hugeLength_0 : cJ7_hugeLength.data.toList.drop 0 = dktJ7_hugeLength_0 := by decide +kernel
theorem dksJ7_hugeLength_1 : cJ7_hugeLength.data.toList.drop 24 = dktJ7_hugeLength_1 := dk_seg dksJ7_hugeLength_0 24 rfl rfl
theorem dksJ7_hugeLength_2 : cJ7_hugeLength.data.toList.drop 48 = dktJ7_hugeLength_2 := dk_seg dksJ7_hugeLength_1 24 rfl rfl
theorem dJ7_hugeLength_0 : decode cJ7_hugeLength 0 = .ok (.iload_n 0, 1) := dk_26 (dk_at dksJ7_hugeLength_0 0 rfl rfl)
theorem dJ7_hugeLength_1 : decode cJ7_hugeLength 1 = .ok (.iload_n 1, 1) := dk_27 (dk_at dksJ7_hugeLength_0 1 rfl rfl)
theorem dJ7_hugeLength_2 : decode cJ7_hugeLength 2 = .ok (.iadd, 1) := dk_96 (dk_at dksJ7_hugeLength_0 2 rfl rfl)
theorem dJ7_hugeLength_3 : decode cJ7_hugeLength 3 = .ok (.istore_n 2, 1) := dk_61 (dk_at dksJ7_hugeLength_0 3 rfl rfl)
theorem dJ7_hugeLength_4 : decode cJ7_hugeLength 4 = .ok (.iload_n 2, 1) := dk_28 (dk_at dksJ7_hugeLength_0 4 rfl rfl)
theorem dJ7_hugeLength_5 : decode cJ7_hugeLength 5 = .ok (.ifCond .ge 44, 3) := dk_156 0 44 (dk_at dksJ7_hugeLength_0 5 rfl rfl)
theorem dJ7_hugeLength_8 : decode cJ7_hugeLength 8 = .ok (.new 204, 3) := dk_187 0 204 (dk_at dksJ7_hugeLength_0 8 rfl rfl)
theorem dJ7_hugeLength_11 : decode cJ7_hugeLength 11 = .ok (.dup, 1) := dk_89 (dk_at dksJ7_hugeLength_0 11 rfl rfl)
theorem dJ7_hugeLength_12 : decode cJ7_hugeLength 12 = .ok (.new 89, 3) := dk_187 0 89 (dk_at dksJ7_hugeLength_0 12 rfl rfl)
theorem dJ7_hugeLength_15 : decode cJ7_hugeLength 15 = .ok (.dup, 1) := dk_89 (dk_at dksJ7_hugeLength_0 15 rfl rfl)
theorem dJ7_hugeLength_16 : decode cJ7_hugeLength 16 = .ok (.invokespecial 91, 3) := dk_183 0 91 (dk_at dksJ7_hugeLength_0 16 rfl rfl)
theorem dJ7_hugeLength_19 : decode cJ7_hugeLength 19 = .ok (.ldc 206, 2) := dk_18 206 (dk_at dksJ7_hugeLength_0 19 rfl rfl)
theorem dJ7_hugeLength_21 : decode cJ7_hugeLength 21 = .ok (.invokevirtual 94, 3) := dk_182 0 94 (dk_at dksJ7_hugeLength_0 21 rfl rfl)
theorem dJ7_hugeLength_24 : decode cJ7_hugeLength 24 = .ok (.iload_n 0, 1) := dk_26 (dk_at dksJ7_hugeLength_1 0 rfl rfl)
theorem dJ7_hugeLength_25 : decode cJ7_hugeLength 25 = .ok (.invokevirtual 98, 3) := dk_182 0 98 (dk_at dksJ7_hugeLength_1 1 rfl rfl)
theorem dJ7_hugeLength_28 : decode cJ7_hugeLength 28 = .ok (.ldc 208, 2) := dk_18 208 (dk_at dksJ7_hugeLength_1 4 rfl rfl)
theorem dJ7_hugeLength_30 : decode cJ7_hugeLength 30 = .ok (.invokevirtual 94, 3) := dk_182 0 94 (dk_at dksJ7_hugeLength_1 6 rfl rfl)
theorem dJ7_hugeLength_33 : decode cJ7_hugeLength 33 = .ok (.iload_n 1, 1) := dk_27 (dk_at dksJ7_hugeLength_1 9 rfl rfl)
theorem dJ7_hugeLength_34 : decode cJ7_hugeLength 34 = .ok (.invokevirtual 98, 3) := dk_182 0 98 (dk_at dksJ7_hugeLength_1 10 rfl rfl)
theorem dJ7_hugeLength_37 : decode cJ7_hugeLength 37 = .ok (.ldc 210, 2) := dk_18 210 (dk_at dksJ7_hugeLength_1 13 rfl rfl)
theorem dJ7_hugeLength_39 : decode cJ7_hugeLength 39 = .ok (.invokevirtual 94, 3) := dk_182 0 94 (dk_at dksJ7_hugeLength_1 15 rfl rfl)
theorem dJ7_hugeLength_42 : decode cJ7_hugeLength 42 = .ok (.invokevirtual 101, 3) := dk_182 0 101 (dk_at dksJ7_hugeLength_1 18 rfl rfl)
theorem dJ7_hugeLength_45 : decode cJ7_hugeLength 45 = .ok (.invokespecial 212, 3) := dk_183 0 212 (dk_at dksJ7_hugeLength_1 21 rfl rfl)
theorem dJ7_hugeLength_48 : decode cJ7_hugeLength 48 = .ok (.athrow, 1) := dk_191 (dk_at dksJ7_hugeLength_2 0 rfl rfl)
theorem dJ7_hugeLength_49 : decode cJ7_hugeLength 49 = .ok (.iload_n 2, 1) := dk_28 (dk_at dksJ7_hugeLength_2 1 rfl rfl)
theorem dJ7_hugeLength_50 : decode cJ7_hugeLength 50 = .ok (.ldc 200, 2) := dk_18 200 (dk_at dksJ7_hugeLength_2 2 rfl rfl)
theorem dJ7_hugeLength_52 : decode cJ7_hugeLength 52 = .ok (.if_icmp .gt 6, 3) := dk_163 0 6 (dk_at dksJ7_hugeLength_2 4 rfl rfl)
theorem dJ7_hugeLength_55 : decode cJ7_hugeLength 55 = .ok (.ldc 200, 2) := dk_18 200 (dk_at dksJ7_hugeLength_2 7 rfl rfl)
theorem dJ7_hugeLength_57 : decode cJ7_hugeLength 57 = .ok (.ireturn, 1) := dk_172 (dk_at dksJ7_hugeLength_2 9 rfl rfl)
theorem dJ7_hugeLength_58 : decode cJ7_hugeLength 58 = .ok (.iload_n 2, 1) := dk_28 (dk_at dksJ7_hugeLength_2 10 rfl rfl)
theorem dJ7_hugeLength_59 : decode cJ7_hugeLength 59 = .ok (.ireturn, 1) := dk_172 (dk_at dksJ7_hugeLength_2 11 rfl rfl)
theorem q66 : (Jvm.Cond.initialized "jdk/internal/util/ArraysSupport") ∈ lw_all := lw_g (lw_at lw_m1 18 rfl) rfl
theorem q463 : (Jvm.Cond.static ({ cls := "jdk/internal/util/ArraysSupport", name := "newLength", desc := "(III)I" } : Jvm.MethodName)) ∈ lw_all := lw_g (lw_at lw_m2 175 rfl) rfl
theorem q464 : (Jvm.Cond.code ({ cls := "jdk/internal/util/ArraysSupport", name := "newLength", desc := "(III)I" } : Jvm.MethodName) prog_36_method_27_code (4 : Nat) (Option.some Jvm.ClassFile.FieldType.int)) ∈ lw_all := lw_g (lw_at lw_m2 176 rfl) rfl
theorem q465 : (Jvm.Cond.methodLink "jdk/internal/util/ArraysSupport" (194 : Nat) ({ cls := "java/lang/Math", name := "max", desc := "(II)I" } : Jvm.MethodName)) ∈ lw_all := lw_g (lw_at lw_m2 177 rfl) rfl
theorem q468 : (Jvm.Cond.constant "jdk/internal/util/ArraysSupport" (200 : Nat) (2147483639 : Int32)) ∈ lw_all := lw_g (lw_at lw_m2 180 rfl) rfl
theorem q469 : (Jvm.Cond.methodLink "jdk/internal/util/ArraysSupport" (201 : Nat) ({ cls := "jdk/internal/util/ArraysSupport", name := "hugeLength", desc := "(II)I" } : Jvm.MethodName)) ∈ lw_all := lw_g (lw_at lw_m2 181 rfl) rfl
theorem q470 : (Jvm.Cond.static ({ cls := "jdk/internal/util/ArraysSupport", name := "hugeLength", desc := "(II)I" } : Jvm.MethodName)) ∈ lw_all := lw_g (lw_at lw_m2 182 rfl) rfl
theorem q471 : (Jvm.Cond.code ({ cls := "jdk/internal/util/ArraysSupport", name := "hugeLength", desc := "(II)I" } : Jvm.MethodName) prog_36_method_28_code (3 : Nat) (Option.some Jvm.ClassFile.FieldType.int)) ∈ lw_all := lw_g (lw_at lw_m2 183 rfl) rfl
/-! java/lang/Math -/
set_option maxRecDepth 100000
def RJ8 : String := "java/lang/Math"
abbrev cJ8_max : ByteArray := prog_20_method_65_code
def yJ8_max : MethodName := ⟨RJ8, "max", "(II)I"⟩
def dkwJ8_max_0 : List UInt8 := [26, 27, 161, 0, 7, 26, 167, 0, 4, 27, 172]
abbrev dktJ8_max_0 : List UInt8 := dkwJ8_max_0 ++ []
theorem dksJ8_max_0 : cJ8_max.data.toList.drop 0 = dktJ8_max_0 := by decide +kernel
theorem dJ8_max_0 : decode cJ8_max 0 = .ok (.iload_n 0, 1) := dk_26 (dk_at dksJ8_max_0 0 rfl rfl)
theorem dJ8_max_1 : decode cJ8_max 1 = .ok (.iload_n 1, 1) := dk_27 (dk_at dksJ8_max_0 1 rfl rfl)
theorem dJ8_max_2 : decode cJ8_max 2 = .ok (.if_icmp .lt 7, 3) := dk_161 0 7 (dk_at dksJ8_max_0 2 rfl rfl)
theorem dJ8_max_5 : decode cJ8_max 5 = .ok (.iload_n 0, 1) := dk_26 (dk_at dksJ8_max_0 5 rfl rfl)
theorem dJ8_max_6 : decode cJ8_max 6 = .ok (.goto 4, 3) := dk_167 0 4 (dk_at dksJ8_max_0 6 rfl rfl)
theorem dJ8_max_9 : decode cJ8_max 9 = .ok (.iload_n 1, 1) := dk_27 (dk_at dksJ8_max_0 9 rfl rfl)
theorem dJ8_max_10 : decode cJ8_max 10 = .ok (.ireturn, 1) := dk_172 (dk_at dksJ8_max_0 10 rfl rfl)
abbrev cJ8_min : ByteArray := prog_20_method_69_code
def yJ8_min : MethodName := ⟨RJ8, "min", "(II)I"⟩
def dkwJ8_min_0 : List UInt8 := [26, 27, 163, 0, 7, 26, 167, 0, 4, 27, 172]
abbrev dktJ8_min_0 : List UInt8 := dkwJ8_min_0 ++ []
theorem dksJ8_min_0 : cJ8_min.data.toList.drop 0 = dktJ8_min_0 := by decide +kernel
theorem dJ8_min_0 : decode cJ8_min 0 = .ok (.iload_n 0, 1) := dk_26 (dk_at dksJ8_min_0 0 rfl rfl)
theorem dJ8_min_1 : decode cJ8_min 1 = .ok (.iload_n 1, 1) := dk_27 (dk_at dksJ8_min_0 1 rfl rfl)
theorem dJ8_min_2 : decode cJ8_min 2 = .ok (.if_icmp .gt 7, 3) := dk_163 0 7 (dk_at dksJ8_min_0 2 rfl rfl)
theorem dJ8_min_5 : decode cJ8_min 5 = .ok (.iload_n 0, 1) := dk_26 (dk_at dksJ8_min_0 5 rfl rfl)
theorem dJ8_min_6 : decode cJ8_min 6 = .ok (.goto 4, 3) := dk_167 0 4 (dk_at dksJ8_min_0 6 rfl rfl)
theorem dJ8_min_9 : decode cJ8_min 9 = .ok (.iload_n 1, 1) := dk_27 (dk_at dksJ8_min_0 9 rfl rfl)
theorem dJ8_min_10 : decode cJ8_min 10 = .ok (.ireturn, 1) := dk_172 (dk_at dksJ8_min_0 10 rfl rfl)
theorem q67 : (Jvm.Cond.initialized "java/lang/Math") ∈ lw_all := lw_g (lw_at lw_m1 19 rfl) rfl
theorem q466 : (Jvm.Cond.static ({ cls := "java/lang/Math", name := "max", desc := "(II)I" } : Jvm.MethodName)) ∈ lw_all := lw_g (lw_at lw_m2 178 rfl) rfl
theorem q467 : (Jvm.Cond.code ({ cls := "java/lang/Math", name := "max", desc := "(II)I" } : Jvm.MethodName) prog_20_method_65_code (2 : Nat) (Option.some Jvm.ClassFile.FieldType.int)) ∈ lw_all := lw_g (lw_at lw_m2 179 rfl) rfl
theorem q502 : (Jvm.Cond.static ({ cls := "java/lang/Math", name := "min", desc := "(II)I" } : Jvm.MethodName)) ∈ lw_all := lw_g (lw_at lw_m2 214 rfl) rfl
theorem q503 : (Jvm.Cond.code ({ cls := "java/lang/Math", name := "min", desc := "(II)I" } : Jvm.MethodName) prog_20_method_69_code (2 : Nat) (Option.some Jvm.ClassFile.FieldType.int)) ∈ lw_all := lw_g (lw_at lw_m2 215 rfl) rfl
/-! java/util/Arrays -/
set_option maxRecDepth 100000
def RJ9 : String := "java/util/Arrays"
abbrev cJ9_copyOf : ByteArray := prog_30_method_119_code
def yJ9_copyOf : MethodName := ⟨RJ9, "copyOf", "([Ljava/lang/Object;I)[Ljava/lang/Object;"⟩
def dkwJ9_copyOf_0 : List UInt8 := [42, 27, 42, 182, 0, 86, 184, 1, 44, 176]
abbrev dktJ9_copyOf_0 : List UInt8 := dkwJ9_copyOf_0 ++ []
theorem dksJ9_copyOf_0 : cJ9_copyOf.data.toList.drop 0 = dktJ9_copyOf_0 := by decide +kernel
theorem dJ9_copyOf_0 : decode cJ9_copyOf 0 = .ok (.aload_n 0, 1) := dk_42 (dk_at dksJ9_copyOf_0 0 rfl rfl)
theorem dJ9_copyOf_1 : decode cJ9_copyOf 1 = .ok (.iload_n 1, 1) := dk_27 (dk_at dksJ9_copyOf_0 1 rfl rfl)
theorem dJ9_copyOf_2 : decode cJ9_copyOf 2 = .ok (.aload_n 0, 1) := dk_42 (dk_at dksJ9_copyOf_0 2 rfl rfl)
theorem dJ9_copyOf_3 : decode cJ9_copyOf 3 = .ok (.invokevirtual 86, 3) := dk_182 0 86 (dk_at dksJ9_copyOf_0 3 rfl rfl)
theorem dJ9_copyOf_6 : decode cJ9_copyOf 6 = .ok (.invokestatic 300, 3) := dk_184 1 44 (dk_at dksJ9_copyOf_0 6 rfl rfl)
theorem dJ9_copyOf_9 : decode cJ9_copyOf 9 = .ok (.areturn, 1) := dk_176 (dk_at dksJ9_copyOf_0 9 rfl rfl)
abbrev cJ9_copyOf_2 : ByteArray := prog_30_method_120_code
def yJ9_copyOf_2 : MethodName := ⟨RJ9, "copyOf", "([Ljava/lang/Object;ILjava/lang/Class;)[Ljava/lang/Object;"⟩
def dkwJ9_copyOf_2_1 : List UInt8 := [78, 42, 3, 45, 3, 42, 190, 27, 184, 1, 48, 184, 0, 150, 45, 176]
abbrev dktJ9_copyOf_2_1 : List UInt8 := dkwJ9_copyOf_2_1 ++ []
def dkwJ9_copyOf_2_0 : List UInt8 := [44, 18, 110, 166, 0, 10, 27, 189, 0, 2, 167, 0, 14, 44, 182, 0, 90, 27, 184, 0, 95, 192, 0, 110]
abbrev dktJ9_copyOf_2_0 : List UInt8 := dkwJ9_copyOf_2_0 ++ dktJ9_copyOf_2_1
theorem dksJ9_copyOf_2_0 : cJ9_copyOf_2.data.toList.drop 0 = dktJ9_copyOf_2_0 := by decide +kernel
theorem dksJ9_copyOf_2_1 : cJ9_copyOf_2.data.toList.drop 24 = dktJ9_copyOf_2_1 := dk_seg dksJ9_copyOf_2_0 24 rfl rfl
theorem dJ9_copyOf_2_0 : decode cJ9_copyOf_2 0 = .ok (.aload_n 2, 1) := dk_44 (dk_at dksJ9_copyOf_2_0 0 rfl rfl)
theorem dJ9_copyOf_2_1 : decode cJ9_copyOf_2 1 = .ok (.ldc 110, 2) := dk_18 110 (dk_at dksJ9_copyOf_2_0 1 rfl rfl)
theorem dJ9_copyOf_2_3 : decode cJ9_copyOf_2 3 = .ok (.if_acmp .ne 10, 3) := dk_166 0 10 (dk_at dksJ9_copyOf_2_0 3 rfl rfl)
theorem dJ9_copyOf_2_6 : decode cJ9_copyOf_2 6 = .ok (.iload_n 1, 1) := dk_27 (dk_at dksJ9_copyOf_2_0 6 rfl rfl)
theorem dJ9_copyOf_2_7 : decode cJ9_copyOf_2 7 = .ok (.anewarray 2, 3) := dk_189 0 2 (dk_at dksJ9_copyOf_2_0 7 rfl rfl)
theorem dJ9_copyOf_2_10 : decode cJ9_copyOf_2 10 = .ok (.goto 14, 3) := dk_167 0 14 (dk_at dksJ9_copyOf_2_0 10 rfl rfl)
theorem dJ9_copyOf_2_13 : decode cJ9_copyOf_2 13 = .ok (.aload_n 2, 1) := dk_44 (dk_at dksJ9_copyOf_2_0 13 rfl rfl)
theorem dJ9_copyOf_2_14 : decode cJ9_copyOf_2 14 = .ok (.invokevirtual 90, 3) := dk_182 0 90 (dk_at dksJ9_copyOf_2_0 14 rfl rfl)
theorem dJ9_copyOf_2_17 : decode cJ9_copyOf_2 17 = .ok (.iload_n 1, 1) := dk_27 (dk_at dksJ9_copyOf_2_0 17 rfl rfl)
theorem dJ9_copyOf_2_18 : decode cJ9_copyOf_2 18 = .ok (.invokestatic 95, 3) := dk_184 0 95 (dk_at dksJ9_copyOf_2_0 18 rfl rfl)
theorem dJ9_copyOf_2_21 : decode cJ9_copyOf_2 21 = .ok (.checkcast 110, 3) := dk_192 0 110 (dk_at dksJ9_copyOf_2_0 21 rfl rfl)
theorem dJ9_copyOf_2_24 : decode cJ9_copyOf_2 24 = .ok (.astore_n 3, 1) := dk_78 (dk_at dksJ9_copyOf_2_1 0 rfl rfl)
theorem dJ9_copyOf_2_25 : decode cJ9_copyOf_2 25 = .ok (.aload_n 0, 1) := dk_42 (dk_at dksJ9_copyOf_2_1 1 rfl rfl)
theorem dJ9_copyOf_2_26 : decode cJ9_copyOf_2 26 = .ok (.iconst 0, 1) := dk_3 (dk_at dksJ9_copyOf_2_1 2 rfl rfl)
theorem dJ9_copyOf_2_27 : decode cJ9_copyOf_2 27 = .ok (.aload_n 3, 1) := dk_45 (dk_at dksJ9_copyOf_2_1 3 rfl rfl)
theorem dJ9_copyOf_2_28 : decode cJ9_copyOf_2 28 = .ok (.iconst 0, 1) := dk_3 (dk_at dksJ9_copyOf_2_1 4 rfl rfl)
theorem dJ9_copyOf_2_29 : decode cJ9_copyOf_2 29 = .ok (.aload_n 0, 1) := dk_42 (dk_at dksJ9_copyOf_2_1 5 rfl rfl)
theorem dJ9_copyOf_2_30 : decode cJ9_copyOf_2 30 = .ok (.arraylength, 1) := dk_190 (dk_at dksJ9_copyOf_2_1 6 rfl rfl)
theorem dJ9_copyOf_2_31 : decode cJ9_copyOf_2 31 = .ok (.iload_n 1, 1) := dk_27 (dk_at dksJ9_copyOf_2_1 7 rfl rfl)
theorem dJ9_copyOf_2_32 : decode cJ9_copyOf_2 32 = .ok (.invokestatic 304, 3) := dk_184 1 48 (dk_at dksJ9_copyOf_2_1 8 rfl rfl)
theorem dJ9_copyOf_2_35 : decode cJ9_copyOf_2 35 = .ok (.invokestatic 150, 3) := dk_184 0 150 (dk_at dksJ9_copyOf_2_1 11 rfl rfl)
theorem dJ9_copyOf_2_38 : decode cJ9_copyOf_2 38 = .ok (.aload_n 3, 1) := dk_45 (dk_at dksJ9_copyOf_2_1 14 rfl rfl)
theorem dJ9_copyOf_2_39 : decode cJ9_copyOf_2 39 = .ok (.areturn, 1) := dk_176 (dk_at dksJ9_copyOf_2_1 15 rfl rfl)
theorem q68 : (Jvm.Cond.initialized "java/util/Arrays") ∈ lw_all := lw_g (lw_at lw_m1 20 rfl) rfl
theorem q473 : (Jvm.Cond.static ({ cls := "java/util/Arrays", name := "copyOf", desc := "([Ljava/lang/Object;I)[Ljava/lang/Object;" } : Jvm.MethodName)) ∈ lw_all := lw_g (lw_at lw_m2 185 rfl) rfl
theorem q474 : (Jvm.Cond.code ({ cls := "java/util/Arrays", name := "copyOf", desc := "([Ljava/lang/Object;I)[Ljava/lang/Object;" } : Jvm.MethodName) prog_30_method_119_code (2 : Nat) (Option.some (Jvm.ClassFile.FieldType.array (Jvm.ClassFile.FieldType.object "java/lang/Object")))) ∈ lw_all := lw_g (lw_at lw_m2 186 rfl) rfl
theorem q475 : (Jvm.Cond.methodLink "java/util/Arrays" (86 : Nat) ({ cls := "java/lang/Object", name := "getClass", desc := "()Ljava/lang/Class;" } : Jvm.MethodName)) ∈ lw_all := lw_g (lw_at lw_m2 187 rfl) rfl
theorem q495 : (Jvm.Cond.methodLink "java/util/Arrays" (300 : Nat) ({ cls := "java/util/Arrays", name := "copyOf", desc := "([Ljava/lang/Object;ILjava/lang/Class;)[Ljava/lang/Object;" } : Jvm.MethodName)) ∈ lw_all := lw_g (lw_at lw_m2 207 rfl) rfl
theorem q496 : (Jvm.Cond.static ({ cls := "java/util/Arrays", name := "copyOf", desc := "([Ljava/lang/Object;ILjava/lang/Class;)[Ljava/lang/Object;" } : Jvm.MethodName)) ∈ lw_all := lw_g (lw_at lw_m2 208 rfl) rfl
theorem q497 : (Jvm.Cond.code ({ cls := "java/util/Arrays", name := "copyOf", desc := "([Ljava/lang/Object;ILjava/lang/Class;)[Ljava/lang/Object;" } : Jvm.MethodName) prog_30_method_120_code (4 : Nat) (Option.some (Jvm.ClassFile.FieldType.array (Jvm.ClassFile.FieldType.object "java/lang/Object")))) ∈ lw_all := lw_g (lw_at lw_m2 209 rfl) rfl
theorem q498 : (Jvm.Cond.classLink "java/util/Arrays" (110 : Nat) "[Ljava/lang/Object;") ∈ lw_all := lw_g (lw_at lw_m2 210 rfl) rfl
theorem q500 : (Jvm.Cond.classLink "java/util/Arrays" (2 : Nat) "java/lang/Object") ∈ lw_all := lw_g (lw_at lw_m2 212 rfl) rfl
theorem q501 : (Jvm.Cond.methodLink "java/util/Arrays" (304 : Nat) ({ cls := "java/lang/Math", name := "min", desc := "(II)I" } : Jvm.MethodName)) ∈ lw_all := lw_g (lw_at lw_m2 213 rfl) rfl
theorem q504 : (Jvm.Cond.methodLink "java/util/Arrays" (150 : Nat) ({ cls := "java/lang/System", name := "arraycopy", desc := "(Ljava/lang/Object;ILjava/lang/Object;II)V" } : Jvm.MethodName)) ∈ lw_all := lw_g (lw_at lw_m2 216 rfl) rfl
/-! java/lang/RuntimeException -/
set_option maxRecDepth 100000
def RJ10 : String := "java/lang/RuntimeException"
abbrev cJ10_init : ByteArray := prog_23_method_2_code
def yJ10_init : MethodName := ⟨RJ10, "<init>", "(Ljava/lang/String;)V"⟩
def dkwJ10_init_0 : List UInt8 := [42, 43, 183, 0, 7, 177]
abbrev dktJ10_init_0 : List UInt8 := dkwJ10_init_0 ++ []
theorem dksJ10_init_0 : cJ10_init.data.toList.drop 0 = dktJ10_init_0 := by decide +kernel
theorem dJ10_init_0 : decode cJ10_init 0 = .ok (.aload_n 0, 1) := dk_42 (dk_at dksJ10_init_0 0 rfl rfl)
theorem dJ10_init_1 : decode cJ10_init 1 = .ok (.aload_n 1, 1) := dk_43 (dk_at dksJ10_init_0 1 rfl rfl)
theorem dJ10_init_2 : decode cJ10_init 2 = .ok (.invokespecial 7, 3) := dk_183 0 7 (dk_at dksJ10_init_0 2 rfl rfl)
theorem dJ10_init_5 : decode cJ10_init 5 = .ok (.return_, 1) := dk_177 (dk_at dksJ10_init_0 5 rfl rfl)
abbrev cJ10_init_2 : ByteArray := prog_23_method_1_code
def yJ10_init_2 : MethodName := ⟨RJ10, "<init>", "()V"⟩
theorem dJ10_init_2_0 : decode cJ10_init_2 0 = .ok (.aload_n 0, 1) := by decide +kernel
theorem dJ10_init_2_1 : decode cJ10_init_2 1 = .ok (.invokespecial 1, 3) := by decide +kernel
theorem dJ10_init_2_4 : decode cJ10_init_2 4 = .ok (.return_, 1) := by decide +kernel
theorem q70 : (Jvm.Cond.initialized "java/lang/RuntimeException") ∈ lw_all := lw_g (lw_at lw_m1 22 rfl) rfl
theorem q212 : (Jvm.Cond.sameMethod "java/lang/RuntimeException" "java/lang/Throwable" "fillInStackTrace" "()Ljava/lang/Throwable;") ∈ lw_all := lw_g (lw_at lw_m1 164 rfl) rfl
theorem q215 : (Jvm.Cond.superclass "java/lang/RuntimeException" "java/lang/Exception") ∈ lw_all := lw_g (lw_at lw_m1 167 rfl) rfl
theorem q518 : (Jvm.Cond.instanceMethod ({ cls := "java/lang/RuntimeException", name := "<init>", desc := "(Ljava/lang/String;)V" } : Jvm.MethodName)) ∈ lw_all := lw_g (lw_at lw_m2 230 rfl) rfl
theorem q519 : (Jvm.Cond.code ({ cls := "java/lang/RuntimeException", name := "<init>", desc := "(Ljava/lang/String;)V" } : Jvm.MethodName) prog_23_method_2_code (2 : Nat) (Option.none : Option Jvm.ClassFile.FieldType)) ∈ lw_all := lw_g (lw_at lw_m2 231 rfl) rfl
theorem q520 : (Jvm.Cond.methodLink "java/lang/RuntimeException" (7 : Nat) ({ cls := "java/lang/Exception", name := "<init>", desc := "(Ljava/lang/String;)V" } : Jvm.MethodName)) ∈ lw_all := lw_g (lw_at lw_m2 232 rfl) rfl
theorem q534 : (Jvm.Cond.declares ({ cls := "java/lang/RuntimeException", name := "<init>", desc := "()V" } : Jvm.MethodName)) ∈ lw_tbl := lw_at lw_m3 6 rfl
theorem q535 : (Jvm.Cond.declares ({ cls := "java/lang/RuntimeException", name := "<init>", desc := "(Ljava/lang/String;)V" } : Jvm.MethodName)) ∈ lw_tbl := lw_at lw_m3 7 rfl
theorem q950 : (Jvm.Cond.instanceMethod ({ cls := "java/lang/RuntimeException", name := "<init>", desc := "()V" } : Jvm.MethodName)) ∈ lw_all := lw_g (lw_at lw_m4 182 rfl) rfl
theorem q951 : (Jvm.Cond.code ({ cls := "java/lang/RuntimeException", name := "<init>", desc := "()V" } : Jvm.MethodName) prog_23_method_1_code (1 : Nat) (Option.none : Option Jvm.ClassFile.FieldType)) ∈ lw_all := lw_g (lw_at lw_m4 183 rfl) rfl
theorem q952 : (Jvm.Cond.methodLink "java/lang/RuntimeException" (1 : Nat) ({ cls := "java/lang/Exception", name := "<init>", desc := "()V" } : Jvm.MethodName)) ∈ lw_all := lw_g (lw_at lw_m4 184 rfl) rfl
theorem q970 : (Jvm.Cond.castable "java/lang/RuntimeException" "java/lang/Throwable") ∈ lw_tbl := lw_at lw_m4 202 rfl
/-! java/lang/ClassCastException -/
set_option maxRecDepth 100000
def RJ11 : String := "java/lang/ClassCastException"
def TJ11 : u_T := fun k => match k with
  | 0 => ("java/lang/Throwable", "backtrace", "Ljava/lang/Object;", false)
  | 1 => ("java/lang/Throwable", "detailMessage", "Ljava/lang/String;", false)
  | 2 => ("java/lang/Throwable", "cause", "Ljava/lang/Throwable;", false)
  | 3 => ("java/lang/Throwable", "stackTrace", "[Ljava/lang/StackTraceElement;", false)
  | 4 => ("java/lang/Throwable", "depth", "I", false)
  | _ => ("java/lang/Throwable", "suppressedExceptions", "Ljava/util/List;", false)
def tyJ11 : Nat → FieldType := fun k => match k with
  | 0 => .object "java/lang/Object"
  | 1 => .object "java/lang/String"
  | 2 => .object "java/lang/Throwable"
  | 3 => .array (.object "java/lang/StackTraceElement")
  | 4 => .int
  | _ => .object "java/util/List"
abbrev wsJ110 : List Cond := u_ws RJ11 TJ11 6
theorem nmJ11 : ∀ a, a < 6 → ∀ b, b < 6 → a ≠ b → (TJ11 a).2.1 ≠ (TJ11 b).2.1 := by decide +kernel
theorem tyJ11_ok : ∀ k, k < 6 → parseFieldDescriptor (TJ11 k).2.2.1 = some (tyJ11 k) := by decide +kernel
abbrev cJ11_init : ByteArray := prog_15_method_2_code
def yJ11_init : MethodName := ⟨RJ11, "<init>", "(Ljava/lang/String;)V"⟩
def dkwJ11_init_0 : List UInt8 := [42, 43, 183, 0, 7, 177]
abbrev dktJ11_init_0 : List UInt8 := dkwJ11_init_0 ++ []
theorem dksJ11_init_0 : cJ11_init.data.toList.drop 0 = dktJ11_init_0 := by decide +kernel
theorem dJ11_init_0 : decode cJ11_init 0 = .ok (.aload_n 0, 1) := dk_42 (dk_at dksJ11_init_0 0 rfl rfl)
theorem dJ11_init_1 : decode cJ11_init 1 = .ok (.aload_n 1, 1) := dk_43 (dk_at dksJ11_init_0 1 rfl rfl)
theorem dJ11_init_2 : decode cJ11_init 2 = .ok (.invokespecial 7, 3) := dk_183 0 7 (dk_at dksJ11_init_0 2 rfl rfl)
theorem dJ11_init_5 : decode cJ11_init 5 = .ok (.return_, 1) := dk_177 (dk_at dksJ11_init_0 5 rfl rfl)
theorem q71 : (Jvm.Cond.initialized "java/lang/ClassCastException") ∈ lw_all := lw_g (lw_at lw_m1 23 rfl) rfl
theorem q201 : (Jvm.Cond.selects "java/lang/ClassCastException" ({ cls := "java/lang/Throwable", name := "fillInStackTrace", desc := "()Ljava/lang/Throwable;" } : Jvm.MethodName) ({ cls := "java/lang/Throwable", name := "fillInStackTrace", desc := "()Ljava/lang/Throwable;" } : Jvm.MethodName)) ∈ lw_all := lw_g (lw_at lw_m1 153 rfl) rfl
theorem q490 : (Jvm.Cond.selects "java/lang/ClassCastException" ({ cls := "java/lang/Object", name := "getClass", desc := "()Ljava/lang/Class;" } : Jvm.MethodName) ({ cls := "java/lang/Object", name := "getClass", desc := "()Ljava/lang/Class;" } : Jvm.MethodName)) ∈ lw_all := lw_g (lw_at lw_m2 202 rfl) rfl
theorem q514 : (Jvm.Cond.instantiable "java/lang/ClassCastException" (6 : Nat)) ∈ lw_all := lw_g (lw_at lw_m2 226 rfl) rfl
theorem q515 : (Jvm.Cond.instanceMethod ({ cls := "java/lang/ClassCastException", name := "<init>", desc := "(Ljava/lang/String;)V" } : Jvm.MethodName)) ∈ lw_all := lw_g (lw_at lw_m2 227 rfl) rfl
theorem q516 : (Jvm.Cond.code ({ cls := "java/lang/ClassCastException", name := "<init>", desc := "(Ljava/lang/String;)V" } : Jvm.MethodName) prog_15_method_2_code (2 : Nat) (Option.none : Option Jvm.ClassFile.FieldType)) ∈ lw_all := lw_g (lw_at lw_m2 228 rfl) rfl
theorem q517 : (Jvm.Cond.methodLink "java/lang/ClassCastException" (7 : Nat) ({ cls := "java/lang/RuntimeException", name := "<init>", desc := "(Ljava/lang/String;)V" } : Jvm.MethodName)) ∈ lw_all := lw_g (lw_at lw_m2 229 rfl) rfl
theorem q526 : (Jvm.Cond.lays "java/lang/ClassCastException" "java/lang/Throwable" "backtrace" "Ljava/lang/Object;") ∈ lw_all := lw_g (lw_at lw_m2 238 rfl) rfl
theorem q527 : (Jvm.Cond.lays "java/lang/ClassCastException" "java/lang/Throwable" "detailMessage" "Ljava/lang/String;") ∈ lw_all := lw_g (lw_at lw_m2 239 rfl) rfl
theorem q528 : (Jvm.Cond.lays "java/lang/ClassCastException" "java/lang/Throwable" "cause" "Ljava/lang/Throwable;") ∈ lw_all := lw_g (lw_at lw_m3 0 rfl) rfl
theorem q529 : (Jvm.Cond.lays "java/lang/ClassCastException" "java/lang/Throwable" "stackTrace" "[Ljava/lang/StackTraceElement;") ∈ lw_all := lw_g (lw_at lw_m3 1 rfl) rfl
theorem q530 : (Jvm.Cond.lays "java/lang/ClassCastException" "java/lang/Throwable" "depth" "I") ∈ lw_all := lw_g (lw_at lw_m3 2 rfl) rfl
theorem q531 : (Jvm.Cond.lays "java/lang/ClassCastException" "java/lang/Throwable" "suppressedExceptions" "Ljava/util/List;") ∈ lw_all := lw_g (lw_at lw_m3 3 rfl) rfl
theorem q532 : (Jvm.Cond.superclass "java/lang/ClassCastException" "java/lang/RuntimeException") ∈ lw_all := lw_g (lw_at lw_m3 4 rfl) rfl
theorem q533 : (Jvm.Cond.castable "java/lang/ClassCastException" "java/lang/ClassCastException") ∈ lw_tbl := lw_at lw_m3 5 rfl
theorem q536 : (Jvm.Cond.selects "java/lang/ClassCastException" ({ cls := "java/lang/Throwable", name := "fillInStackTrace", desc := "(I)Ljava/lang/Throwable;" } : Jvm.MethodName) ({ cls := "java/lang/Throwable", name := "fillInStackTrace", desc := "(I)Ljava/lang/Throwable;" } : Jvm.MethodName)) ∈ lw_all := lw_g (lw_at lw_m3 8 rfl) rfl
theorem q1395 : (Jvm.Cond.castable "java/lang/ClassCastException" "java/lang/Object") ∈ lw_tbl := lw_at lw_m6 147 rfl
theorem in_J11 : ∀ w ∈ wsJ110, w ∈ lw_all := lw_in wsJ110 [526, 527, 528, 529, 530, 531] (by decide +kernel) (by decide +kernel)
/-! java/lang/String -/
set_option maxRecDepth 100000
def RJ12 : String := "java/lang/String"
def TJ12 : u_T := fun k => match k with
  | 0 => ("java/lang/String", "value", "[B", true)
  | _ => ("java/lang/String", "coder", "B", true)
def tyJ12 : Nat → FieldType := fun k => match k with
  | 0 => .array .byte
  | _ => .byte
abbrev wsJ120 : List Cond := u_ws RJ12 TJ12 2
theorem nmJ12 : ∀ a, a < 2 → ∀ b, b < 2 → a ≠ b → (TJ12 a).2.1 ≠ (TJ12 b).2.1 := by decide +kernel
theorem tyJ12_ok : ∀ k, k < 2 → parseFieldDescriptor (TJ12 k).2.2.1 = some (tyJ12 k) := by decide +kernel
theorem q72 : (Jvm.Cond.initialized "java/lang/String") ∈ lw_all := lw_g (lw_at lw_m1 24 rfl) rfl
theorem q537 : (Jvm.Cond.instantiable "java/lang/String" (4 : Nat)) ∈ lw_all := lw_g (lw_at lw_m3 9 rfl) rfl
theorem q538 : (Jvm.Cond.laysFinal "java/lang/String" "java/lang/String" "value" "[B") ∈ lw_all := lw_g (lw_at lw_m3 10 rfl) rfl
theorem q539 : (Jvm.Cond.soleField "java/lang/String" "value") ∈ lw_all := lw_g (lw_at lw_m3 11 rfl) rfl
theorem q540 : (Jvm.Cond.laysFinal "java/lang/String" "java/lang/String" "coder" "B") ∈ lw_all := lw_g (lw_at lw_m3 12 rfl) rfl
theorem q541 : (Jvm.Cond.soleField "java/lang/String" "coder") ∈ lw_all := lw_g (lw_at lw_m3 13 rfl) rfl
theorem q1401 : (Jvm.Cond.castable "java/lang/String" "java/lang/Object") ∈ lw_tbl := lw_at lw_m6 153 rfl
theorem in_J12 : ∀ w ∈ wsJ120, w ∈ lw_all := lw_in wsJ120 [538, 540] (by decide +kernel) (by decide +kernel)
/-! java/lang/NegativeArraySizeException -/
set_option maxRecDepth 100000
def RJ13 : String := "java/lang/NegativeArraySizeException"
def TJ13 : u_T := fun k => match k with
  | 0 => ("java/lang/Throwable", "backtrace", "Ljava/lang/Object;", false)
  | 1 => ("java/lang/Throwable", "detailMessage", "Ljava/lang/String;", false)
  | 2 => ("java/lang/Throwable", "cause", "Ljava/lang/Throwable;", false)
  | 3 => ("java/lang/Throwable", "stackTrace", "[Ljava/lang/StackTraceElement;", false)
  | 4 => ("java/lang/Throwable", "depth", "I", false)
  | _ => ("java/lang/Throwable", "suppressedExceptions", "Ljava/util/List;", false)
def tyJ13 : Nat → FieldType := fun k => match k with
  | 0 => .object "java/lang/Object"
  | 1 => .object "java/lang/String"
  | 2 => .object "java/lang/Throwable"
  | 3 => .array (.object "java/lang/StackTraceElement")
  | 4 => .int
  | _ => .object "java/util/List"
abbrev wsJ130 : List Cond := u_ws RJ13 TJ13 6
theorem nmJ13 : ∀ a, a < 6 → ∀ b, b < 6 → a ≠ b → (TJ13 a).2.1 ≠ (TJ13 b).2.1 := by decide +kernel
theorem tyJ13_ok : ∀ k, k < 6 → parseFieldDescriptor (TJ13 k).2.2.1 = some (tyJ13 k) := by decide +kernel
abbrev cJ13_init : ByteArray := prog_21_method_2_code
def yJ13_init : MethodName := ⟨RJ13, "<init>", "(Ljava/lang/String;)V"⟩
def dkwJ13_init_0 : List UInt8 := [42, 43, 183, 0, 7, 177]
abbrev dktJ13_init_0 : List UInt8 := dkwJ13_init_0 ++ []
theorem dksJ13_init_0 : cJ13_init.data.toList.drop 0 = dktJ13_init_0 := by decide +kernel
theorem dJ13_init_0 : decode cJ13_init 0 = .ok (.aload_n 0, 1) := dk_42 (dk_at dksJ13_init_0 0 rfl rfl)
theorem dJ13_init_1 : decode cJ13_init 1 = .ok (.aload_n 1, 1) := dk_43 (dk_at dksJ13_init_0 1 rfl rfl)
theorem dJ13_init_2 : decode cJ13_init 2 = .ok (.invokespecial 7, 3) := dk_183 0 7 (dk_at dksJ13_init_0 2 rfl rfl)
theorem dJ13_init_5 : decode cJ13_init 5 = .ok (.return_, 1) := dk_177 (dk_at dksJ13_init_0 5 rfl rfl)
theorem q73 : (Jvm.Cond.initialized "java/lang/NegativeArraySizeException") ∈ lw_all := lw_g (lw_at lw_m1 25 rfl) rfl
theorem q202 : (Jvm.Cond.selects "java/lang/NegativeArraySizeException" ({ cls := "java/lang/Throwable", name := "fillInStackTrace", desc := "()Ljava/lang/Throwable;" } : Jvm.MethodName) ({ cls := "java/lang/Throwable", name := "fillInStackTrace", desc := "()Ljava/lang/Throwable;" } : Jvm.MethodName)) ∈ lw_all := lw_g (lw_at lw_m1 154 rfl) rfl
theorem q491 : (Jvm.Cond.selects "java/lang/NegativeArraySizeException" ({ cls := "java/lang/Object", name := "getClass", desc := "()Ljava/lang/Class;" } : Jvm.MethodName) ({ cls := "java/lang/Object", name := "getClass", desc := "()Ljava/lang/Class;" } : Jvm.MethodName)) ∈ lw_all := lw_g (lw_at lw_m2 203 rfl) rfl
theorem q924 : (Jvm.Cond.instantiable "java/lang/NegativeArraySizeException" (6 : Nat)) ∈ lw_all := lw_g (lw_at lw_m4 156 rfl) rfl
theorem q925 : (Jvm.Cond.instanceMethod ({ cls := "java/lang/NegativeArraySizeException", name := "<init>", desc := "(Ljava/lang/String;)V" } : Jvm.MethodName)) ∈ lw_all := lw_g (lw_at lw_m4 157 rfl) rfl
theorem q926 : (Jvm.Cond.code ({ cls := "java/lang/NegativeArraySizeException", name := "<init>", desc := "(Ljava/lang/String;)V" } : Jvm.MethodName) prog_21_method_2_code (2 : Nat) (Option.none : Option Jvm.ClassFile.FieldType)) ∈ lw_all := lw_g (lw_at lw_m4 158 rfl) rfl
theorem q927 : (Jvm.Cond.methodLink "java/lang/NegativeArraySizeException" (7 : Nat) ({ cls := "java/lang/RuntimeException", name := "<init>", desc := "(Ljava/lang/String;)V" } : Jvm.MethodName)) ∈ lw_all := lw_g (lw_at lw_m4 159 rfl) rfl
theorem q928 : (Jvm.Cond.lays "java/lang/NegativeArraySizeException" "java/lang/Throwable" "backtrace" "Ljava/lang/Object;") ∈ lw_all := lw_g (lw_at lw_m4 160 rfl) rfl
theorem q929 : (Jvm.Cond.lays "java/lang/NegativeArraySizeException" "java/lang/Throwable" "detailMessage" "Ljava/lang/String;") ∈ lw_all := lw_g (lw_at lw_m4 161 rfl) rfl
theorem q930 : (Jvm.Cond.lays "java/lang/NegativeArraySizeException" "java/lang/Throwable" "cause" "Ljava/lang/Throwable;") ∈ lw_all := lw_g (lw_at lw_m4 162 rfl) rfl
theorem q931 : (Jvm.Cond.lays "java/lang/NegativeArraySizeException" "java/lang/Throwable" "stackTrace" "[Ljava/lang/StackTraceElement;") ∈ lw_all := lw_g (lw_at lw_m4 163 rfl) rfl
theorem q932 : (Jvm.Cond.lays "java/lang/NegativeArraySizeException" "java/lang/Throwable" "depth" "I") ∈ lw_all := lw_g (lw_at lw_m4 164 rfl) rfl
theorem q933 : (Jvm.Cond.lays "java/lang/NegativeArraySizeException" "java/lang/Throwable" "suppressedExceptions" "Ljava/util/List;") ∈ lw_all := lw_g (lw_at lw_m4 165 rfl) rfl
theorem q934 : (Jvm.Cond.superclass "java/lang/NegativeArraySizeException" "java/lang/RuntimeException") ∈ lw_all := lw_g (lw_at lw_m4 166 rfl) rfl
theorem q935 : (Jvm.Cond.castable "java/lang/NegativeArraySizeException" "java/lang/NegativeArraySizeException") ∈ lw_tbl := lw_at lw_m4 167 rfl
theorem q936 : (Jvm.Cond.selects "java/lang/NegativeArraySizeException" ({ cls := "java/lang/Throwable", name := "fillInStackTrace", desc := "(I)Ljava/lang/Throwable;" } : Jvm.MethodName) ({ cls := "java/lang/Throwable", name := "fillInStackTrace", desc := "(I)Ljava/lang/Throwable;" } : Jvm.MethodName)) ∈ lw_all := lw_g (lw_at lw_m4 168 rfl) rfl
theorem q1396 : (Jvm.Cond.castable "java/lang/NegativeArraySizeException" "java/lang/Object") ∈ lw_tbl := lw_at lw_m6 148 rfl
theorem in_J13 : ∀ w ∈ wsJ130, w ∈ lw_all := lw_in wsJ130 [928, 929, 930, 931, 932, 933] (by decide +kernel) (by decide +kernel)
/-! java/lang/NullPointerException -/
set_option maxRecDepth 100000
def RJ14 : String := "java/lang/NullPointerException"
def TJ14 : u_T := fun k => match k with
  | 0 => ("java/lang/Throwable", "backtrace", "Ljava/lang/Object;", false)
  | 1 => ("java/lang/Throwable", "detailMessage", "Ljava/lang/String;", false)
  | 2 => ("java/lang/Throwable", "cause", "Ljava/lang/Throwable;", false)
  | 3 => ("java/lang/Throwable", "stackTrace", "[Ljava/lang/StackTraceElement;", false)
  | 4 => ("java/lang/Throwable", "depth", "I", false)
  | 5 => ("java/lang/Throwable", "suppressedExceptions", "Ljava/util/List;", false)
  | 6 => ("java/lang/NullPointerException", "extendedMessageState", "I", false)
  | _ => ("java/lang/NullPointerException", "extendedMessage", "Ljava/lang/String;", false)
def tyJ14 : Nat → FieldType := fun k => match k with
  | 0 => .object "java/lang/Object"
  | 1 => .object "java/lang/String"
  | 2 => .object "java/lang/Throwable"
  | 3 => .array (.object "java/lang/StackTraceElement")
  | 4 => .int
  | 5 => .object "java/util/List"
  | 6 => .int
  | _ => .object "java/lang/String"
abbrev wsJ140 : List Cond := u_ws RJ14 TJ14 8
theorem nmJ14 : ∀ a, a < 8 → ∀ b, b < 8 → a ≠ b → (TJ14 a).2.1 ≠ (TJ14 b).2.1 := by decide +kernel
theorem tyJ14_ok : ∀ k, k < 8 → parseFieldDescriptor (TJ14 k).2.2.1 = some (tyJ14 k) := by decide +kernel
abbrev cJ14_init : ByteArray := prog_22_method_1_code
def yJ14_init : MethodName := ⟨RJ14, "<init>", "()V"⟩
theorem dJ14_init_0 : decode cJ14_init 0 = .ok (.aload_n 0, 1) := by decide +kernel
theorem dJ14_init_1 : decode cJ14_init 1 = .ok (.invokespecial 1, 3) := by decide +kernel
theorem dJ14_init_4 : decode cJ14_init 4 = .ok (.return_, 1) := by decide +kernel
theorem q74 : (Jvm.Cond.initialized "java/lang/NullPointerException") ∈ lw_all := lw_g (lw_at lw_m1 26 rfl) rfl
theorem q203 : (Jvm.Cond.selects "java/lang/NullPointerException" ({ cls := "java/lang/Throwable", name := "fillInStackTrace", desc := "()Ljava/lang/Throwable;" } : Jvm.MethodName) ({ cls := "java/lang/NullPointerException", name := "fillInStackTrace", desc := "()Ljava/lang/Throwable;" } : Jvm.MethodName)) ∈ lw_all := lw_g (lw_at lw_m1 155 rfl) rfl
theorem q204 : (Jvm.Cond.instanceMethod ({ cls := "java/lang/NullPointerException", name := "fillInStackTrace", desc := "()Ljava/lang/Throwable;" } : Jvm.MethodName)) ∈ lw_all := lw_g (lw_at lw_m1 156 rfl) rfl
theorem q205 : (Jvm.Cond.codeSync ({ cls := "java/lang/NullPointerException", name := "fillInStackTrace", desc := "()Ljava/lang/Throwable;" } : Jvm.MethodName) prog_22_method_3_code (1 : Nat) (Option.some (Jvm.ClassFile.FieldType.object "java/lang/Throwable"))) ∈ lw_all := lw_g (lw_at lw_m1 157 rfl) rfl
theorem q206 : (Jvm.Cond.methodLink "java/lang/NullPointerException" (16 : Nat) ({ cls := "java/lang/NullPointerException", name := "getExtendedNPEMessage", desc := "()Ljava/lang/String;" } : Jvm.MethodName)) ∈ lw_all := lw_g (lw_at lw_m1 158 rfl) rfl
theorem q207 : (Jvm.Cond.privateMethod ({ cls := "java/lang/NullPointerException", name := "getExtendedNPEMessage", desc := "()Ljava/lang/String;" } : Jvm.MethodName)) ∈ lw_tbl := lw_at lw_m1 159 rfl
theorem q208 : (Jvm.Cond.instanceMethod ({ cls := "java/lang/NullPointerException", name := "getExtendedNPEMessage", desc := "()Ljava/lang/String;" } : Jvm.MethodName)) ∈ lw_all := lw_g (lw_at lw_m1 160 rfl) rfl
theorem q209 : (Jvm.Cond.instantiable "java/lang/NullPointerException" (8 : Nat)) ∈ lw_all := lw_g (lw_at lw_m1 161 rfl) rfl
theorem q210 : (Jvm.Cond.native ({ cls := "java/lang/NullPointerException", name := "getExtendedNPEMessage", desc := "()Ljava/lang/String;" } : Jvm.MethodName)) ∈ lw_all := lw_g (lw_at lw_m1 162 rfl) rfl
theorem q211 : (Jvm.Cond.methodLink "java/lang/NullPointerException" (24 : Nat) ({ cls := "java/lang/RuntimeException", name := "fillInStackTrace", desc := "()Ljava/lang/Throwable;" } : Jvm.MethodName)) ∈ lw_all := lw_g (lw_at lw_m1 163 rfl) rfl
theorem q214 : (Jvm.Cond.superclass "java/lang/NullPointerException" "java/lang/RuntimeException") ∈ lw_all := lw_g (lw_at lw_m1 166 rfl) rfl
theorem q492 : (Jvm.Cond.selects "java/lang/NullPointerException" ({ cls := "java/lang/Object", name := "getClass", desc := "()Ljava/lang/Class;" } : Jvm.MethodName) ({ cls := "java/lang/Object", name := "getClass", desc := "()Ljava/lang/Class;" } : Jvm.MethodName)) ∈ lw_all := lw_g (lw_at lw_m2 204 rfl) rfl
theorem q947 : (Jvm.Cond.instanceMethod ({ cls := "java/lang/NullPointerException", name := "<init>", desc := "()V" } : Jvm.MethodName)) ∈ lw_all := lw_g (lw_at lw_m4 179 rfl) rfl
theorem q948 : (Jvm.Cond.code ({ cls := "java/lang/NullPointerException", name := "<init>", desc := "()V" } : Jvm.MethodName) prog_22_method_1_code (1 : Nat) (Option.none : Option Jvm.ClassFile.FieldType)) ∈ lw_all := lw_g (lw_at lw_m4 180 rfl) rfl
theorem q949 : (Jvm.Cond.methodLink "java/lang/NullPointerException" (1 : Nat) ({ cls := "java/lang/RuntimeException", name := "<init>", desc := "()V" } : Jvm.MethodName)) ∈ lw_all := lw_g (lw_at lw_m4 181 rfl) rfl
theorem q956 : (Jvm.Cond.fieldLink "java/lang/NullPointerException" (10 : Nat) "java/lang/NullPointerException" "extendedMessageState" "I") ∈ lw_all := lw_g (lw_at lw_m4 188 rfl) rfl
theorem q957 : (Jvm.Cond.fieldLink "java/lang/NullPointerException" (20 : Nat) "java/lang/NullPointerException" "extendedMessage" "Ljava/lang/String;") ∈ lw_all := lw_g (lw_at lw_m4 189 rfl) rfl
theorem q958 : (Jvm.Cond.lays "java/lang/NullPointerException" "java/lang/NullPointerException" "extendedMessageState" "I") ∈ lw_all := lw_g (lw_at lw_m4 190 rfl) rfl
theorem q959 : (Jvm.Cond.soleField "java/lang/NullPointerException" "extendedMessageState") ∈ lw_all := lw_g (lw_at lw_m4 191 rfl) rfl
theorem q960 : (Jvm.Cond.lays "java/lang/NullPointerException" "java/lang/NullPointerException" "extendedMessage" "Ljava/lang/String;") ∈ lw_all := lw_g (lw_at lw_m4 192 rfl) rfl
theorem q961 : (Jvm.Cond.soleField "java/lang/NullPointerException" "extendedMessage") ∈ lw_all := lw_g (lw_at lw_m4 193 rfl) rfl
theorem q962 : (Jvm.Cond.lays "java/lang/NullPointerException" "java/lang/Throwable" "backtrace" "Ljava/lang/Object;") ∈ lw_all := lw_g (lw_at lw_m4 194 rfl) rfl
theorem q963 : (Jvm.Cond.lays "java/lang/NullPointerException" "java/lang/Throwable" "detailMessage" "Ljava/lang/String;") ∈ lw_all := lw_g (lw_at lw_m4 195 rfl) rfl
theorem q964 : (Jvm.Cond.lays "java/lang/NullPointerException" "java/lang/Throwable" "cause" "Ljava/lang/Throwable;") ∈ lw_all := lw_g (lw_at lw_m4 196 rfl) rfl
theorem q965 : (Jvm.Cond.lays "java/lang/NullPointerException" "java/lang/Throwable" "stackTrace" "[Ljava/lang/StackTraceElement;") ∈ lw_all := lw_g (lw_at lw_m4 197 rfl) rfl
theorem q966 : (Jvm.Cond.lays "java/lang/NullPointerException" "java/lang/Throwable" "depth" "I") ∈ lw_all := lw_g (lw_at lw_m4 198 rfl) rfl
theorem q967 : (Jvm.Cond.lays "java/lang/NullPointerException" "java/lang/Throwable" "suppressedExceptions" "Ljava/util/List;") ∈ lw_all := lw_g (lw_at lw_m4 199 rfl) rfl
theorem q968 : (Jvm.Cond.castable "java/lang/NullPointerException" "java/lang/NullPointerException") ∈ lw_tbl := lw_at lw_m4 200 rfl
theorem q969 : (Jvm.Cond.selects "java/lang/NullPointerException" ({ cls := "java/lang/Throwable", name := "fillInStackTrace", desc := "(I)Ljava/lang/Throwable;" } : Jvm.MethodName) ({ cls := "java/lang/Throwable", name := "fillInStackTrace", desc := "(I)Ljava/lang/Throwable;" } : Jvm.MethodName)) ∈ lw_all := lw_g (lw_at lw_m4 201 rfl) rfl
theorem q1397 : (Jvm.Cond.castable "java/lang/NullPointerException" "java/lang/Object") ∈ lw_tbl := lw_at lw_m6 149 rfl
theorem in_J14 : ∀ w ∈ wsJ140, w ∈ lw_all := lw_in wsJ140 [962, 963, 964, 965, 966, 967, 958, 960] (by decide +kernel) (by decide +kernel)
/-! java/lang/IndexOutOfBoundsException -/
set_option maxRecDepth 100000
def RJ15 : String := "java/lang/IndexOutOfBoundsException"
abbrev cJ15_init : ByteArray := prog_18_method_2_code
def yJ15_init : MethodName := ⟨RJ15, "<init>", "(Ljava/lang/String;)V"⟩
def dkwJ15_init_0 : List UInt8 := [42, 43, 183, 0, 7, 177]
abbrev dktJ15_init_0 : List UInt8 := dkwJ15_init_0 ++ []
theorem dksJ15_init_0 : cJ15_init.data.toList.drop 0 = dktJ15_init_0 := by decide +kernel
theorem dJ15_init_0 : decode cJ15_init 0 = .ok (.aload_n 0, 1) := dk_42 (dk_at dksJ15_init_0 0 rfl rfl)
theorem dJ15_init_1 : decode cJ15_init 1 = .ok (.aload_n 1, 1) := dk_43 (dk_at dksJ15_init_0 1 rfl rfl)
theorem dJ15_init_2 : decode cJ15_init 2 = .ok (.invokespecial 7, 3) := dk_183 0 7 (dk_at dksJ15_init_0 2 rfl rfl)
theorem dJ15_init_5 : decode cJ15_init 5 = .ok (.return_, 1) := dk_177 (dk_at dksJ15_init_0 5 rfl rfl)
theorem q75 : (Jvm.Cond.initialized "java/lang/IndexOutOfBoundsException") ∈ lw_all := lw_g (lw_at lw_m1 27 rfl) rfl
theorem q976 : (Jvm.Cond.instanceMethod ({ cls := "java/lang/IndexOutOfBoundsException", name := "<init>", desc := "(Ljava/lang/String;)V" } : Jvm.MethodName)) ∈ lw_all := lw_g (lw_at lw_m4 208 rfl) rfl
theorem q977 : (Jvm.Cond.code ({ cls := "java/lang/IndexOutOfBoundsException", name := "<init>", desc := "(Ljava/lang/String;)V" } : Jvm.MethodName) prog_18_method_2_code (2 : Nat) (Option.none : Option Jvm.ClassFile.FieldType)) ∈ lw_all := lw_g (lw_at lw_m4 209 rfl) rfl
theorem q978 : (Jvm.Cond.methodLink "java/lang/IndexOutOfBoundsException" (7 : Nat) ({ cls := "java/lang/RuntimeException", name := "<init>", desc := "(Ljava/lang/String;)V" } : Jvm.MethodName)) ∈ lw_all := lw_g (lw_at lw_m4 210 rfl) rfl
theorem q987 : (Jvm.Cond.declares ({ cls := "java/lang/IndexOutOfBoundsException", name := "<init>", desc := "()V" } : Jvm.MethodName)) ∈ lw_tbl := lw_at lw_m4 219 rfl
theorem q988 : (Jvm.Cond.declares ({ cls := "java/lang/IndexOutOfBoundsException", name := "<init>", desc := "(Ljava/lang/String;)V" } : Jvm.MethodName)) ∈ lw_tbl := lw_at lw_m4 220 rfl
/-! java/lang/ArrayIndexOutOfBoundsException -/
set_option maxRecDepth 100000
def RJ16 : String := "java/lang/ArrayIndexOutOfBoundsException"
def TJ16 : u_T := fun k => match k with
  | 0 => ("java/lang/Throwable", "backtrace", "Ljava/lang/Object;", false)
  | 1 => ("java/lang/Throwable", "detailMessage", "Ljava/lang/String;", false)
  | 2 => ("java/lang/Throwable", "cause", "Ljava/lang/Throwable;", false)
  | 3 => ("java/lang/Throwable", "stackTrace", "[Ljava/lang/StackTraceElement;", false)
  | 4 => ("java/lang/Throwable", "depth", "I", false)
  | _ => ("java/lang/Throwable", "suppressedExceptions", "Ljava/util/List;", false)
def tyJ16 : Nat → FieldType := fun k => match k with
  | 0 => .object "java/lang/Object"
  | 1 => .object "java/lang/String"
  | 2 => .object "java/lang/Throwable"
  | 3 => .array (.object "java/lang/StackTraceElement")
  | 4 => .int
  | _ => .object "java/util/List"
abbrev wsJ160 : List Cond := u_ws RJ16 TJ16 6
theorem nmJ16 : ∀ a, a < 6 → ∀ b, b < 6 → a ≠ b → (TJ16 a).2.1 ≠ (TJ16 b).2.1 := by decide +kernel
theorem tyJ16_ok : ∀ k, k < 6 → parseFieldDescriptor (TJ16 k).2.2.1 = some (tyJ16 k) := by decide +kernel
abbrev cJ16_init : ByteArray := prog_13_method_2_code
def yJ16_init : MethodName := ⟨RJ16, "<init>", "(Ljava/lang/String;)V"⟩
def dkwJ16_init_0 : List UInt8 := [42, 43, 183, 0, 7, 177]
abbrev dktJ16_init_0 : List UInt8 := dkwJ16_init_0 ++ []
theorem dksJ16_init_0 : cJ16_init.data.toList.drop 0 = dktJ16_init_0 := by decide +kernel
theorem dJ16_init_0 : decode cJ16_init 0 = .ok (.aload_n 0, 1) := dk_42 (dk_at dksJ16_init_0 0 rfl rfl)
theorem dJ16_init_1 : decode cJ16_init 1 = .ok (.aload_n 1, 1) := dk_43 (dk_at dksJ16_init_0 1 rfl rfl)
theorem dJ16_init_2 : decode cJ16_init 2 = .ok (.invokespecial 7, 3) := dk_183 0 7 (dk_at dksJ16_init_0 2 rfl rfl)
theorem dJ16_init_5 : decode cJ16_init 5 = .ok (.return_, 1) := dk_177 (dk_at dksJ16_init_0 5 rfl rfl)
theorem q76 : (Jvm.Cond.initialized "java/lang/ArrayIndexOutOfBoundsException") ∈ lw_all := lw_g (lw_at lw_m1 28 rfl) rfl
theorem q199 : (Jvm.Cond.selects "java/lang/ArrayIndexOutOfBoundsException" ({ cls := "java/lang/Throwable", name := "fillInStackTrace", desc := "()Ljava/lang/Throwable;" } : Jvm.MethodName) ({ cls := "java/lang/Throwable", name := "fillInStackTrace", desc := "()Ljava/lang/Throwable;" } : Jvm.MethodName)) ∈ lw_all := lw_g (lw_at lw_m1 151 rfl) rfl
theorem q488 : (Jvm.Cond.selects "java/lang/ArrayIndexOutOfBoundsException" ({ cls := "java/lang/Object", name := "getClass", desc := "()Ljava/lang/Class;" } : Jvm.MethodName) ({ cls := "java/lang/Object", name := "getClass", desc := "()Ljava/lang/Class;" } : Jvm.MethodName)) ∈ lw_all := lw_g (lw_at lw_m2 200 rfl) rfl
theorem q972 : (Jvm.Cond.instantiable "java/lang/ArrayIndexOutOfBoundsException" (6 : Nat)) ∈ lw_all := lw_g (lw_at lw_m4 204 rfl) rfl
theorem q973 : (Jvm.Cond.instanceMethod ({ cls := "java/lang/ArrayIndexOutOfBoundsException", name := "<init>", desc := "(Ljava/lang/String;)V" } : Jvm.MethodName)) ∈ lw_all := lw_g (lw_at lw_m4 205 rfl) rfl
theorem q974 : (Jvm.Cond.code ({ cls := "java/lang/ArrayIndexOutOfBoundsException", name := "<init>", desc := "(Ljava/lang/String;)V" } : Jvm.MethodName) prog_13_method_2_code (2 : Nat) (Option.none : Option Jvm.ClassFile.FieldType)) ∈ lw_all := lw_g (lw_at lw_m4 206 rfl) rfl
theorem q975 : (Jvm.Cond.methodLink "java/lang/ArrayIndexOutOfBoundsException" (7 : Nat) ({ cls := "java/lang/IndexOutOfBoundsException", name := "<init>", desc := "(Ljava/lang/String;)V" } : Jvm.MethodName)) ∈ lw_all := lw_g (lw_at lw_m4 207 rfl) rfl
theorem q979 : (Jvm.Cond.lays "java/lang/ArrayIndexOutOfBoundsException" "java/lang/Throwable" "backtrace" "Ljava/lang/Object;") ∈ lw_all := lw_g (lw_at lw_m4 211 rfl) rfl
theorem q980 : (Jvm.Cond.lays "java/lang/ArrayIndexOutOfBoundsException" "java/lang/Throwable" "detailMessage" "Ljava/lang/String;") ∈ lw_all := lw_g (lw_at lw_m4 212 rfl) rfl
theorem q981 : (Jvm.Cond.lays "java/lang/ArrayIndexOutOfBoundsException" "java/lang/Throwable" "cause" "Ljava/lang/Throwable;") ∈ lw_all := lw_g (lw_at lw_m4 213 rfl) rfl
theorem q982 : (Jvm.Cond.lays "java/lang/ArrayIndexOutOfBoundsException" "java/lang/Throwable" "stackTrace" "[Ljava/lang/StackTraceElement;") ∈ lw_all := lw_g (lw_at lw_m4 214 rfl) rfl
theorem q983 : (Jvm.Cond.lays "java/lang/ArrayIndexOutOfBoundsException" "java/lang/Throwable" "depth" "I") ∈ lw_all := lw_g (lw_at lw_m4 215 rfl) rfl
theorem q984 : (Jvm.Cond.lays "java/lang/ArrayIndexOutOfBoundsException" "java/lang/Throwable" "suppressedExceptions" "Ljava/util/List;") ∈ lw_all := lw_g (lw_at lw_m4 216 rfl) rfl
theorem q985 : (Jvm.Cond.superclass "java/lang/ArrayIndexOutOfBoundsException" "java/lang/IndexOutOfBoundsException") ∈ lw_all := lw_g (lw_at lw_m4 217 rfl) rfl
theorem q986 : (Jvm.Cond.castable "java/lang/ArrayIndexOutOfBoundsException" "java/lang/ArrayIndexOutOfBoundsException") ∈ lw_tbl := lw_at lw_m4 218 rfl
theorem q989 : (Jvm.Cond.selects "java/lang/ArrayIndexOutOfBoundsException" ({ cls := "java/lang/Throwable", name := "fillInStackTrace", desc := "(I)Ljava/lang/Throwable;" } : Jvm.MethodName) ({ cls := "java/lang/Throwable", name := "fillInStackTrace", desc := "(I)Ljava/lang/Throwable;" } : Jvm.MethodName)) ∈ lw_all := lw_g (lw_at lw_m4 221 rfl) rfl
theorem q1380 : (Jvm.Cond.castable "java/lang/ArrayIndexOutOfBoundsException" "java/lang/IndexOutOfBoundsException") ∈ lw_tbl := lw_at lw_m6 132 rfl
theorem q1398 : (Jvm.Cond.castable "java/lang/ArrayIndexOutOfBoundsException" "java/lang/Object") ∈ lw_tbl := lw_at lw_m6 150 rfl
theorem in_J16 : ∀ w ∈ wsJ160, w ∈ lw_all := lw_in wsJ160 [979, 980, 981, 982, 983, 984] (by decide +kernel) (by decide +kernel)
/-! java/lang/ArrayStoreException -/
set_option maxRecDepth 100000
def RJ17 : String := "java/lang/ArrayStoreException"
def TJ17 : u_T := fun k => match k with
  | 0 => ("java/lang/Throwable", "backtrace", "Ljava/lang/Object;", false)
  | 1 => ("java/lang/Throwable", "detailMessage", "Ljava/lang/String;", false)
  | 2 => ("java/lang/Throwable", "cause", "Ljava/lang/Throwable;", false)
  | 3 => ("java/lang/Throwable", "stackTrace", "[Ljava/lang/StackTraceElement;", false)
  | 4 => ("java/lang/Throwable", "depth", "I", false)
  | _ => ("java/lang/Throwable", "suppressedExceptions", "Ljava/util/List;", false)
def tyJ17 : Nat → FieldType := fun k => match k with
  | 0 => .object "java/lang/Object"
  | 1 => .object "java/lang/String"
  | 2 => .object "java/lang/Throwable"
  | 3 => .array (.object "java/lang/StackTraceElement")
  | 4 => .int
  | _ => .object "java/util/List"
abbrev wsJ170 : List Cond := u_ws RJ17 TJ17 6
theorem nmJ17 : ∀ a, a < 6 → ∀ b, b < 6 → a ≠ b → (TJ17 a).2.1 ≠ (TJ17 b).2.1 := by decide +kernel
theorem tyJ17_ok : ∀ k, k < 6 → parseFieldDescriptor (TJ17 k).2.2.1 = some (tyJ17 k) := by decide +kernel
abbrev cJ17_init : ByteArray := prog_14_method_2_code
def yJ17_init : MethodName := ⟨RJ17, "<init>", "(Ljava/lang/String;)V"⟩
def dkwJ17_init_0 : List UInt8 := [42, 43, 183, 0, 7, 177]
abbrev dktJ17_init_0 : List UInt8 := dkwJ17_init_0 ++ []
theorem dksJ17_init_0 : cJ17_init.data.toList.drop 0 = dktJ17_init_0 := by decide +kernel
theorem dJ17_init_0 : decode cJ17_init 0 = .ok (.aload_n 0, 1) := dk_42 (dk_at dksJ17_init_0 0 rfl rfl)
theorem dJ17_init_1 : decode cJ17_init 1 = .ok (.aload_n 1, 1) := dk_43 (dk_at dksJ17_init_0 1 rfl rfl)
theorem dJ17_init_2 : decode cJ17_init 2 = .ok (.invokespecial 7, 3) := dk_183 0 7 (dk_at dksJ17_init_0 2 rfl rfl)
theorem dJ17_init_5 : decode cJ17_init 5 = .ok (.return_, 1) := dk_177 (dk_at dksJ17_init_0 5 rfl rfl)
theorem q77 : (Jvm.Cond.initialized "java/lang/ArrayStoreException") ∈ lw_all := lw_g (lw_at lw_m1 29 rfl) rfl
theorem q200 : (Jvm.Cond.selects "java/lang/ArrayStoreException" ({ cls := "java/lang/Throwable", name := "fillInStackTrace", desc := "()Ljava/lang/Throwable;" } : Jvm.MethodName) ({ cls := "java/lang/Throwable", name := "fillInStackTrace", desc := "()Ljava/lang/Throwable;" } : Jvm.MethodName)) ∈ lw_all := lw_g (lw_at lw_m1 152 rfl) rfl
theorem q489 : (Jvm.Cond.selects "java/lang/ArrayStoreException" ({ cls := "java/lang/Object", name := "getClass", desc := "()Ljava/lang/Class;" } : Jvm.MethodName) ({ cls := "java/lang/Object", name := "getClass", desc := "()Ljava/lang/Class;" } : Jvm.MethodName)) ∈ lw_all := lw_g (lw_at lw_m2 201 rfl) rfl
theorem q998 : (Jvm.Cond.instantiable "java/lang/ArrayStoreException" (6 : Nat)) ∈ lw_all := lw_g (lw_at lw_m4 230 rfl) rfl
theorem q999 : (Jvm.Cond.instanceMethod ({ cls := "java/lang/ArrayStoreException", name := "<init>", desc := "(Ljava/lang/String;)V" } : Jvm.MethodName)) ∈ lw_all := lw_g (lw_at lw_m4 231 rfl) rfl
theorem q1000 : (Jvm.Cond.code ({ cls := "java/lang/ArrayStoreException", name := "<init>", desc := "(Ljava/lang/String;)V" } : Jvm.MethodName) prog_14_method_2_code (2 : Nat) (Option.none : Option Jvm.ClassFile.FieldType)) ∈ lw_all := lw_g (lw_at lw_m4 232 rfl) rfl
theorem q1001 : (Jvm.Cond.methodLink "java/lang/ArrayStoreException" (7 : Nat) ({ cls := "java/lang/RuntimeException", name := "<init>", desc := "(Ljava/lang/String;)V" } : Jvm.MethodName)) ∈ lw_all := lw_g (lw_at lw_m4 233 rfl) rfl
theorem q1002 : (Jvm.Cond.lays "java/lang/ArrayStoreException" "java/lang/Throwable" "backtrace" "Ljava/lang/Object;") ∈ lw_all := lw_g (lw_at lw_m4 234 rfl) rfl
theorem q1003 : (Jvm.Cond.lays "java/lang/ArrayStoreException" "java/lang/Throwable" "detailMessage" "Ljava/lang/String;") ∈ lw_all := lw_g (lw_at lw_m4 235 rfl) rfl
theorem q1004 : (Jvm.Cond.lays "java/lang/ArrayStoreException" "java/lang/Throwable" "cause" "Ljava/lang/Throwable;") ∈ lw_all := lw_g (lw_at lw_m4 236 rfl) rfl
theorem q1005 : (Jvm.Cond.lays "java/lang/ArrayStoreException" "java/lang/Throwable" "stackTrace" "[Ljava/lang/StackTraceElement;") ∈ lw_all := lw_g (lw_at lw_m4 237 rfl) rfl
theorem q1006 : (Jvm.Cond.lays "java/lang/ArrayStoreException" "java/lang/Throwable" "depth" "I") ∈ lw_all := lw_g (lw_at lw_m4 238 rfl) rfl
theorem q1007 : (Jvm.Cond.lays "java/lang/ArrayStoreException" "java/lang/Throwable" "suppressedExceptions" "Ljava/util/List;") ∈ lw_all := lw_g (lw_at lw_m4 239 rfl) rfl
theorem q1008 : (Jvm.Cond.superclass "java/lang/ArrayStoreException" "java/lang/RuntimeException") ∈ lw_all := lw_g (lw_at lw_m5 0 rfl) rfl
theorem q1009 : (Jvm.Cond.castable "java/lang/ArrayStoreException" "java/lang/ArrayStoreException") ∈ lw_tbl := lw_at lw_m5 1 rfl
theorem q1010 : (Jvm.Cond.selects "java/lang/ArrayStoreException" ({ cls := "java/lang/Throwable", name := "fillInStackTrace", desc := "(I)Ljava/lang/Throwable;" } : Jvm.MethodName) ({ cls := "java/lang/Throwable", name := "fillInStackTrace", desc := "(I)Ljava/lang/Throwable;" } : Jvm.MethodName)) ∈ lw_all := lw_g (lw_at lw_m5 2 rfl) rfl
theorem q1399 : (Jvm.Cond.castable "java/lang/ArrayStoreException" "java/lang/Object") ∈ lw_tbl := lw_at lw_m6 151 rfl
theorem in_J17 : ∀ w ∈ wsJ170, w ∈ lw_all := lw_in wsJ170 [1002, 1003, 1004, 1005, 1006, 1007] (by decide +kernel) (by decide +kernel)
/-! java/lang/Object -/
set_option maxRecDepth 100000
def RJ18 : String := "java/lang/Object"
abbrev cJ18_init : ByteArray := object_method_1_code
def yJ18_init : MethodName := ⟨RJ18, "<init>", "()V"⟩
theorem dJ18_init_0 : decode cJ18_init 0 = .ok (.return_, 1) := by decide +kernel
theorem q84 : (Jvm.Cond.instanceMethod ({ cls := "java/lang/Object", name := "<init>", desc := "()V" } : Jvm.MethodName)) ∈ lw_all := lw_g (lw_at lw_m1 36 rfl) rfl
theorem q85 : (Jvm.Cond.code ({ cls := "java/lang/Object", name := "<init>", desc := "()V" } : Jvm.MethodName) object_method_1_code (1 : Nat) (Option.none : Option Jvm.ClassFile.FieldType)) ∈ lw_all := lw_g (lw_at lw_m1 37 rfl) rfl
theorem q476 : (Jvm.Cond.instanceMethod ({ cls := "java/lang/Object", name := "getClass", desc := "()Ljava/lang/Class;" } : Jvm.MethodName)) ∈ lw_all := lw_g (lw_at lw_m2 188 rfl) rfl
theorem q477 : (Jvm.Cond.sameMethod "java/lang/Object" "java/lang/Object" "getClass" "()Ljava/lang/Class;") ∈ lw_all := lw_g (lw_at lw_m2 189 rfl) rfl
theorem q494 : (Jvm.Cond.native ({ cls := "java/lang/Object", name := "getClass", desc := "()Ljava/lang/Class;" } : Jvm.MethodName)) ∈ lw_all := lw_g (lw_at lw_m2 206 rfl) rfl
theorem q1379 : (Jvm.Cond.initialized "java/lang/Object") ∈ lw_all := lw_g (lw_at lw_m6 131 rfl) rfl
theorem q1404 : (Jvm.Cond.declares ({ cls := "java/lang/Object", name := "getClass", desc := "()Ljava/lang/Class;" } : Jvm.MethodName)) ∈ lw_tbl := lw_at lw_m6 156 rfl
/-! CoinNotThere$Routine -/
set_option maxRecDepth 100000
def RX1 : String := "CoinNotThere$Routine"
def TX1 : u_T := fun k => match k with
  | 0 => ("CoinNotThere$Routine", "beats", "[LCoinNotThere$Beat;", true)
  | 1 => ("CoinNotThere$Routine", "stands", "I", false)
  | _ => ("CoinNotThere$Routine", "laws", "[I", true)
def tyX1 : Nat → FieldType := fun k => match k with
  | 0 => .array (.object "CoinNotThere$Beat")
  | 1 => .int
  | _ => .array .int
abbrev wsX10 : List Cond := u_ws RX1 TX1 3
theorem nmX1 : ∀ a, a < 3 → ∀ b, b < 3 → a ≠ b → (TX1 a).2.1 ≠ (TX1 b).2.1 := by decide +kernel
theorem tyX1_ok : ∀ k, k < 3 → parseFieldDescriptor (TX1 k).2.2.1 = some (tyX1 k) := by decide +kernel
abbrev cX1_init : ByteArray := prog_6_method_1_code
def yX1_init : MethodName := ⟨RX1, "<init>", "()V"⟩
def dkwX1_init_3 : List UInt8 := [177]
abbrev dktX1_init_3 : List UInt8 := dkwX1_init_3 ++ []
def dkwX1_init_2 : List UInt8 := [16, 16, 162, 0, 22, 42, 180, 0, 11, 27, 187, 0, 9, 89, 183, 0, 25, 83, 132, 1, 1, 167, 255, 234]
abbrev dktX1_init_2 : List UInt8 := dkwX1_init_2 ++ dktX1_init_3
def dkwX1_init_1 : List UInt8 := [7, 79, 89, 4, 6, 79, 89, 5, 6, 79, 89, 6, 5, 79, 89, 7, 5, 79, 181, 0, 21, 3, 60, 27]
abbrev dktX1_init_1 : List UInt8 := dkwX1_init_1 ++ dktX1_init_2
def dkwX1_init_0 : List UInt8 := [42, 183, 0, 3, 42, 16, 16, 189, 0, 9, 181, 0, 11, 42, 4, 181, 0, 17, 42, 8, 188, 10, 89, 3]
abbrev dktX1_init_0 : List UInt8 := dkwX1_init_0 ++ dktX1_init_1
theorem dksX1_init_0 : cX1_init.data.toList.drop 0 = dktX1_init_0 := by decide +kernel
theorem dksX1_init_1 : cX1_init.data.toList.drop 24 = dktX1_init_1 := dk_seg dksX1_init_0 24 rfl rfl
theorem dksX1_init_2 : cX1_init.data.toList.drop 48 = dktX1_init_2 := dk_seg dksX1_init_1 24 rfl rfl
theorem dksX1_init_3 : cX1_init.data.toList.drop 72 = dktX1_init_3 := dk_seg dksX1_init_2 24 rfl rfl
theorem dX1_init_0 : decode cX1_init 0 = .ok (.aload_n 0, 1) := dk_42 (dk_at dksX1_init_0 0 rfl rfl)
theorem dX1_init_1 : decode cX1_init 1 = .ok (.invokespecial 3, 3) := dk_183 0 3 (dk_at dksX1_init_0 1 rfl rfl)
theorem dX1_init_4 : decode cX1_init 4 = .ok (.aload_n 0, 1) := dk_42 (dk_at dksX1_init_0 4 rfl rfl)
theorem dX1_init_5 : decode cX1_init 5 = .ok (.bipush 16, 2) := dk_16 16 (dk_at dksX1_init_0 5 rfl rfl)
theorem dX1_init_7 : decode cX1_init 7 = .ok (.anewarray 9, 3) := dk_189 0 9 (dk_at dksX1_init_0 7 rfl rfl)
theorem dX1_init_10 : decode cX1_init 10 = .ok (.putfield 11, 3) := dk_181 0 11 (dk_at dksX1_init_0 10 rfl rfl)
theorem dX1_init_13 : decode cX1_init 13 = .ok (.aload_n 0, 1) := dk_42 (dk_at dksX1_init_0 13 rfl rfl)
theorem dX1_init_14 : decode cX1_init 14 = .ok (.iconst 1, 1) := dk_4 (dk_at dksX1_init_0 14 rfl rfl)
theorem dX1_init_15 : decode cX1_init 15 = .ok (.putfield 17, 3) := dk_181 0 17 (dk_at dksX1_init_0 15 rfl rfl)
theorem dX1_init_18 : decode cX1_init 18 = .ok (.aload_n 0, 1) := dk_42 (dk_at dksX1_init_0 18 rfl rfl)
theorem dX1_init_19 : decode cX1_init 19 = .ok (.iconst 5, 1) := dk_8 (dk_at dksX1_init_0 19 rfl rfl)
theorem dX1_init_20 : decode cX1_init 20 = .ok (.newarray .int, 2) := dk_188_10 (dk_at dksX1_init_0 20 rfl rfl)
theorem dX1_init_22 : decode cX1_init 22 = .ok (.dup, 1) := dk_89 (dk_at dksX1_init_0 22 rfl rfl)
theorem dX1_init_23 : decode cX1_init 23 = .ok (.iconst 0, 1) := dk_3 (dk_at dksX1_init_0 23 rfl rfl)
theorem dX1_init_24 : decode cX1_init 24 = .ok (.iconst 4, 1) := dk_7 (dk_at dksX1_init_1 0 rfl rfl)
theorem dX1_init_25 : decode cX1_init 25 = .ok (.iastore, 1) := dk_79 (dk_at dksX1_init_1 1 rfl rfl)
theorem dX1_init_26 : decode cX1_init 26 = .ok (.dup, 1) := dk_89 (dk_at dksX1_init_1 2 rfl rfl)
theorem dX1_init_27 : decode cX1_init 27 = .ok (.iconst 1, 1) := dk_4 (dk_at dksX1_init_1 3 rfl rfl)
theorem dX1_init_28 : decode cX1_init 28 = .ok (.iconst 3, 1) := dk_6 (dk_at dksX1_init_1 4 rfl rfl)
theorem dX1_init_29 : decode cX1_init 29 = .ok (.iastore, 1) := dk_79 (dk_at dksX1_init_1 5 rfl rfl)
theorem dX1_init_30 : decode cX1_init 30 = .ok (.dup, 1) := dk_89 (dk_at dksX1_init_1 6 rfl rfl)
theorem dX1_init_31 : decode cX1_init 31 = .ok (.iconst 2, 1) := dk_5 (dk_at dksX1_init_1 7 rfl rfl)
theorem dX1_init_32 : decode cX1_init 32 = .ok (.iconst 3, 1) := dk_6 (dk_at dksX1_init_1 8 rfl rfl)
theorem dX1_init_33 : decode cX1_init 33 = .ok (.iastore, 1) := dk_79 (dk_at dksX1_init_1 9 rfl rfl)
theorem dX1_init_34 : decode cX1_init 34 = .ok (.dup, 1) := dk_89 (dk_at dksX1_init_1 10 rfl rfl)
theorem dX1_init_35 : decode cX1_init 35 = .ok (.iconst 3, 1) := dk_6 (dk_at dksX1_init_1 11 rfl rfl)
theorem dX1_init_36 : decode cX1_init 36 = .ok (.iconst 2, 1) := dk_5 (dk_at dksX1_init_1 12 rfl rfl)
theorem dX1_init_37 : decode cX1_init 37 = .ok (.iastore, 1) := dk_79 (dk_at dksX1_init_1 13 rfl rfl)
theorem dX1_init_38 : decode cX1_init 38 = .ok (.dup, 1) := dk_89 (dk_at dksX1_init_1 14 rfl rfl)
theorem dX1_init_39 : decode cX1_init 39 = .ok (.iconst 4, 1) := dk_7 (dk_at dksX1_init_1 15 rfl rfl)
theorem dX1_init_40 : decode cX1_init 40 = .ok (.iconst 2, 1) := dk_5 (dk_at dksX1_init_1 16 rfl rfl)
theorem dX1_init_41 : decode cX1_init 41 = .ok (.iastore, 1) := dk_79 (dk_at dksX1_init_1 17 rfl rfl)
theorem dX1_init_42 : decode cX1_init 42 = .ok (.putfield 21, 3) := dk_181 0 21 (dk_at dksX1_init_1 18 rfl rfl)
theorem dX1_init_45 : decode cX1_init 45 = .ok (.iconst 0, 1) := dk_3 (dk_at dksX1_init_1 21 rfl rfl)
theorem dX1_init_46 : decode cX1_init 46 = .ok (.istore_n 1, 1) := dk_60 (dk_at dksX1_init_1 22 rfl rfl)
theorem dX1_init_47 : decode cX1_init 47 = .ok (.iload_n 1, 1) := dk_27 (dk_at dksX1_init_1 23 rfl rfl)
theorem dX1_init_48 : decode cX1_init 48 = .ok (.bipush 16, 2) := dk_16 16 (dk_at dksX1_init_2 0 rfl rfl)
theorem dX1_init_50 : decode cX1_init 50 = .ok (.if_icmp .ge 22, 3) := dk_162 0 22 (dk_at dksX1_init_2 2 rfl rfl)
theorem dX1_init_53 : decode cX1_init 53 = .ok (.aload_n 0, 1) := dk_42 (dk_at dksX1_init_2 5 rfl rfl)
theorem dX1_init_54 : decode cX1_init 54 = .ok (.getfield 11, 3) := dk_180 0 11 (dk_at dksX1_init_2 6 rfl rfl)
theorem dX1_init_57 : decode cX1_init 57 = .ok (.iload_n 1, 1) := dk_27 (dk_at dksX1_init_2 9 rfl rfl)
theorem dX1_init_58 : decode cX1_init 58 = .ok (.new 9, 3) := dk_187 0 9 (dk_at dksX1_init_2 10 rfl rfl)
theorem dX1_init_61 : decode cX1_init 61 = .ok (.dup, 1) := dk_89 (dk_at dksX1_init_2 13 rfl rfl)
theorem dX1_init_62 : decode cX1_init 62 = .ok (.invokespecial 25, 3) := dk_183 0 25 (dk_at dksX1_init_2 14 rfl rfl)
theorem dX1_init_65 : decode cX1_init 65 = .ok (.aastore, 1) := dk_83 (dk_at dksX1_init_2 17 rfl rfl)
theorem dX1_init_66 : decode cX1_init 66 = .ok (.iinc 1 1, 3) := dk_132 1 1 (dk_at dksX1_init_2 18 rfl rfl)
theorem dX1_init_69 : decode cX1_init 69 = .ok (.goto (-22), 3) := dk_167 255 234 (dk_at dksX1_init_2 21 rfl rfl)
theorem dX1_init_72 : decode cX1_init 72 = .ok (.return_, 1) := dk_177 (dk_at dksX1_init_3 0 rfl rfl)
abbrev cX1_takeFrom : ByteArray := prog_6_method_2_code
def yX1_takeFrom : MethodName := ⟨RX1, "takeFrom", "(LCoinNotThere$Routine;)V"⟩
def dkwX1_takeFrom_2 : List UInt8 := [8, 184, 0, 30, 177]
abbrev dktX1_takeFrom_2 : List UInt8 := dkwX1_takeFrom_2 ++ []
def dkwX1_takeFrom_1 : List UInt8 := [132, 2, 1, 167, 255, 232, 42, 43, 180, 0, 17, 181, 0, 17, 43, 180, 0, 21, 3, 42, 180, 0, 21, 3]
abbrev dktX1_takeFrom_1 : List UInt8 := dkwX1_takeFrom_1 ++ dktX1_takeFrom_2
def dkwX1_takeFrom_0 : List UInt8 := [3, 61, 28, 16, 16, 162, 0, 24, 42, 180, 0, 11, 28, 50, 43, 180, 0, 11, 28, 50, 182, 0, 26]
abbrev dktX1_takeFrom_0 : List UInt8 := dkwX1_takeFrom_0 ++ dktX1_takeFrom_1
theorem dksX1_takeFrom_0 : cX1_takeFrom.data.toList.drop 0 = dktX1_takeFrom_0 := by decide +kernel
theorem dksX1_takeFrom_1 : cX1_takeFrom.data.toList.drop 23 = dktX1_takeFrom_1 := dk_seg dksX1_takeFrom_0 23 rfl rfl
theorem dksX1_takeFrom_2 : cX1_takeFrom.data.toList.drop 47 = dktX1_takeFrom_2 := dk_seg dksX1_takeFrom_1 24 rfl rfl
theorem dX1_takeFrom_0 : decode cX1_takeFrom 0 = .ok (.iconst 0, 1) := dk_3 (dk_at dksX1_takeFrom_0 0 rfl rfl)
theorem dX1_takeFrom_1 : decode cX1_takeFrom 1 = .ok (.istore_n 2, 1) := dk_61 (dk_at dksX1_takeFrom_0 1 rfl rfl)
theorem dX1_takeFrom_2 : decode cX1_takeFrom 2 = .ok (.iload_n 2, 1) := dk_28 (dk_at dksX1_takeFrom_0 2 rfl rfl)
theorem dX1_takeFrom_3 : decode cX1_takeFrom 3 = .ok (.bipush 16, 2) := dk_16 16 (dk_at dksX1_takeFrom_0 3 rfl rfl)
theorem dX1_takeFrom_5 : decode cX1_takeFrom 5 = .ok (.if_icmp .ge 24, 3) := dk_162 0 24 (dk_at dksX1_takeFrom_0 5 rfl rfl)
theorem dX1_takeFrom_8 : decode cX1_takeFrom 8 = .ok (.aload_n 0, 1) := dk_42 (dk_at dksX1_takeFrom_0 8 rfl rfl)
theorem dX1_takeFrom_9 : decode cX1_takeFrom 9 = .ok (.getfield 11, 3) := dk_180 0 11 (dk_at dksX1_takeFrom_0 9 rfl rfl)
theorem dX1_takeFrom_12 : decode cX1_takeFrom 12 = .ok (.iload_n 2, 1) := dk_28 (dk_at dksX1_takeFrom_0 12 rfl rfl)
theorem dX1_takeFrom_13 : decode cX1_takeFrom 13 = .ok (.aaload, 1) := dk_50 (dk_at dksX1_takeFrom_0 13 rfl rfl)
theorem dX1_takeFrom_14 : decode cX1_takeFrom 14 = .ok (.aload_n 1, 1) := dk_43 (dk_at dksX1_takeFrom_0 14 rfl rfl)
theorem dX1_takeFrom_15 : decode cX1_takeFrom 15 = .ok (.getfield 11, 3) := dk_180 0 11 (dk_at dksX1_takeFrom_0 15 rfl rfl)
theorem dX1_takeFrom_18 : decode cX1_takeFrom 18 = .ok (.iload_n 2, 1) := dk_28 (dk_at dksX1_takeFrom_0 18 rfl rfl)
theorem dX1_takeFrom_19 : decode cX1_takeFrom 19 = .ok (.aaload, 1) := dk_50 (dk_at dksX1_takeFrom_0 19 rfl rfl)
theorem dX1_takeFrom_20 : decode cX1_takeFrom 20 = .ok (.invokevirtual 26, 3) := dk_182 0 26 (dk_at dksX1_takeFrom_0 20 rfl rfl)
theorem dX1_takeFrom_23 : decode cX1_takeFrom 23 = .ok (.iinc 2 1, 3) := dk_132 2 1 (dk_at dksX1_takeFrom_1 0 rfl rfl)
theorem dX1_takeFrom_26 : decode cX1_takeFrom 26 = .ok (.goto (-24), 3) := dk_167 255 232 (dk_at dksX1_takeFrom_1 3 rfl rfl)
theorem dX1_takeFrom_29 : decode cX1_takeFrom 29 = .ok (.aload_n 0, 1) := dk_42 (dk_at dksX1_takeFrom_1 6 rfl rfl)
theorem dX1_takeFrom_30 : decode cX1_takeFrom 30 = .ok (.aload_n 1, 1) := dk_43 (dk_at dksX1_takeFrom_1 7 rfl rfl)
theorem dX1_takeFrom_31 : decode cX1_takeFrom 31 = .ok (.getfield 17, 3) := dk_180 0 17 (dk_at dksX1_takeFrom_1 8 rfl rfl)
theorem dX1_takeFrom_34 : decode cX1_takeFrom 34 = .ok (.putfield 17, 3) := dk_181 0 17 (dk_at dksX1_takeFrom_1 11 rfl rfl)
theorem dX1_takeFrom_37 : decode cX1_takeFrom 37 = .ok (.aload_n 1, 1) := dk_43 (dk_at dksX1_takeFrom_1 14 rfl rfl)
theorem dX1_takeFrom_38 : decode cX1_takeFrom 38 = .ok (.getfield 21, 3) := dk_180 0 21 (dk_at dksX1_takeFrom_1 15 rfl rfl)
theorem dX1_takeFrom_41 : decode cX1_takeFrom 41 = .ok (.iconst 0, 1) := dk_3 (dk_at dksX1_takeFrom_1 18 rfl rfl)
theorem dX1_takeFrom_42 : decode cX1_takeFrom 42 = .ok (.aload_n 0, 1) := dk_42 (dk_at dksX1_takeFrom_1 19 rfl rfl)
theorem dX1_takeFrom_43 : decode cX1_takeFrom 43 = .ok (.getfield 21, 3) := dk_180 0 21 (dk_at dksX1_takeFrom_1 20 rfl rfl)
theorem dX1_takeFrom_46 : decode cX1_takeFrom 46 = .ok (.iconst 0, 1) := dk_3 (dk_at dksX1_takeFrom_1 23 rfl rfl)
theorem dX1_takeFrom_47 : decode cX1_takeFrom 47 = .ok (.iconst 5, 1) := dk_8 (dk_at dksX1_takeFrom_2 0 rfl rfl)
theorem dX1_takeFrom_48 : decode cX1_takeFrom 48 = .ok (.invokestatic 30, 3) := dk_184 0 30 (dk_at dksX1_takeFrom_2 1 rfl rfl)
theorem dX1_takeFrom_51 : decode cX1_takeFrom 51 = .ok (.return_, 1) := dk_177 (dk_at dksX1_takeFrom_2 4 rfl rfl)
abbrev cX1_canSee : ByteArray := prog_6_method_3_code
def yX1_canSee : MethodName := ⟨RX1, "canSee", "(III)Z"⟩
def dkwX1_canSee_1 : List UInt8 := [167, 0, 21, 28, 4, 160, 0, 11, 21, 4, 29, 5, 100, 164, 0, 7, 4, 167, 0, 4, 3, 172]
abbrev dktX1_canSee_1 : List UInt8 := dkwX1_canSee_1 ++ []
def dkwX1_canSee_0 : List UInt8 := [27, 7, 112, 54, 4, 28, 154, 0, 19, 21, 4, 29, 5, 96, 162, 0, 7, 4, 167, 0, 25, 3]
abbrev dktX1_canSee_0 : List UInt8 := dkwX1_canSee_0 ++ dktX1_canSee_1
theorem dksX1_canSee_0 : cX1_canSee.data.toList.drop 0 = dktX1_canSee_0 := by decide +kernel
theorem dksX1_canSee_1 : cX1_canSee.data.toList.drop 22 = dktX1_canSee_1 := dk_seg dksX1_canSee_0 22 rfl rfl
theorem dX1_canSee_0 : decode cX1_canSee 0 = .ok (.iload_n 1, 1) := dk_27 (dk_at dksX1_canSee_0 0 rfl rfl)
theorem dX1_canSee_1 : decode cX1_canSee 1 = .ok (.iconst 4, 1) := dk_7 (dk_at dksX1_canSee_0 1 rfl rfl)
theorem dX1_canSee_2 : decode cX1_canSee 2 = .ok (.irem, 1) := dk_112 (dk_at dksX1_canSee_0 2 rfl rfl)
theorem dX1_canSee_3 : decode cX1_canSee 3 = .ok (.istore 4, 2) := dk_54 4 (dk_at dksX1_canSee_0 3 rfl rfl)
theorem dX1_canSee_5 : decode cX1_canSee 5 = .ok (.iload_n 2, 1) := dk_28 (dk_at dksX1_canSee_0 5 rfl rfl)
theorem dX1_canSee_6 : decode cX1_canSee 6 = .ok (.ifCond .ne 19, 3) := dk_154 0 19 (dk_at dksX1_canSee_0 6 rfl rfl)
theorem dX1_canSee_9 : decode cX1_canSee 9 = .ok (.iload 4, 2) := dk_21 4 (dk_at dksX1_canSee_0 9 rfl rfl)
theorem dX1_canSee_11 : decode cX1_canSee 11 = .ok (.iload_n 3, 1) := dk_29 (dk_at dksX1_canSee_0 11 rfl rfl)
theorem dX1_canSee_12 : decode cX1_canSee 12 = .ok (.iconst 2, 1) := dk_5 (dk_at dksX1_canSee_0 12 rfl rfl)
theorem dX1_canSee_13 : decode cX1_canSee 13 = .ok (.iadd, 1) := dk_96 (dk_at dksX1_canSee_0 13 rfl rfl)
theorem dX1_canSee_14 : decode cX1_canSee 14 = .ok (.if_icmp .ge 7, 3) := dk_162 0 7 (dk_at dksX1_canSee_0 14 rfl rfl)
theorem dX1_canSee_17 : decode cX1_canSee 17 = .ok (.iconst 1, 1) := dk_4 (dk_at dksX1_canSee_0 17 rfl rfl)
theorem dX1_canSee_18 : decode cX1_canSee 18 = .ok (.goto 25, 3) := dk_167 0 25 (dk_at dksX1_canSee_0 18 rfl rfl)
theorem dX1_canSee_21 : decode cX1_canSee 21 = .ok (.iconst 0, 1) := dk_3 (dk_at dksX1_canSee_0 21 rfl rfl)
theorem dX1_canSee_22 : decode cX1_canSee 22 = .ok (.goto 21, 3) := dk_167 0 21 (dk_at dksX1_canSee_1 0 rfl rfl)
theorem dX1_canSee_25 : decode cX1_canSee 25 = .ok (.iload_n 2, 1) := dk_28 (dk_at dksX1_canSee_1 3 rfl rfl)
theorem dX1_canSee_26 : decode cX1_canSee 26 = .ok (.iconst 1, 1) := dk_4 (dk_at dksX1_canSee_1 4 rfl rfl)
theorem dX1_canSee_27 : decode cX1_canSee 27 = .ok (.if_icmp .ne 11, 3) := dk_160 0 11 (dk_at dksX1_canSee_1 5 rfl rfl)
theorem dX1_canSee_30 : decode cX1_canSee 30 = .ok (.iload 4, 2) := dk_21 4 (dk_at dksX1_canSee_1 8 rfl rfl)
theorem dX1_canSee_32 : decode cX1_canSee 32 = .ok (.iload_n 3, 1) := dk_29 (dk_at dksX1_canSee_1 10 rfl rfl)
theorem dX1_canSee_33 : decode cX1_canSee 33 = .ok (.iconst 2, 1) := dk_5 (dk_at dksX1_canSee_1 11 rfl rfl)
theorem dX1_canSee_34 : decode cX1_canSee 34 = .ok (.isub, 1) := dk_100 (dk_at dksX1_canSee_1 12 rfl rfl)
theorem dX1_canSee_35 : decode cX1_canSee 35 = .ok (.if_icmp .le 7, 3) := dk_164 0 7 (dk_at dksX1_canSee_1 13 rfl rfl)
theorem dX1_canSee_38 : decode cX1_canSee 38 = .ok (.iconst 1, 1) := dk_4 (dk_at dksX1_canSee_1 16 rfl rfl)
theorem dX1_canSee_39 : decode cX1_canSee 39 = .ok (.goto 4, 3) := dk_167 0 4 (dk_at dksX1_canSee_1 17 rfl rfl)
theorem dX1_canSee_42 : decode cX1_canSee 42 = .ok (.iconst 0, 1) := dk_3 (dk_at dksX1_canSee_1 20 rfl rfl)
theorem dX1_canSee_43 : decode cX1_canSee 43 = .ok (.ireturn, 1) := dk_172 (dk_at dksX1_canSee_1 21 rfl rfl)
theorem q50 : (Jvm.Cond.initialized "CoinNotThere$Routine") ∈ lw_all := lw_g (lw_at lw_m1 2 rfl) rfl
theorem q87 : (Jvm.Cond.instantiable "CoinNotThere$Routine" (3 : Nat)) ∈ lw_all := lw_g (lw_at lw_m1 39 rfl) rfl
theorem q89 : (Jvm.Cond.instanceMethod ({ cls := "CoinNotThere$Routine", name := "<init>", desc := "()V" } : Jvm.MethodName)) ∈ lw_all := lw_g (lw_at lw_m1 41 rfl) rfl
theorem q90 : (Jvm.Cond.code ({ cls := "CoinNotThere$Routine", name := "<init>", desc := "()V" } : Jvm.MethodName) prog_6_method_1_code (2 : Nat) (Option.none : Option Jvm.ClassFile.FieldType)) ∈ lw_all := lw_g (lw_at lw_m1 42 rfl) rfl
theorem q91 : (Jvm.Cond.methodLink "CoinNotThere$Routine" (3 : Nat) ({ cls := "java/lang/Object", name := "<init>", desc := "()V" } : Jvm.MethodName)) ∈ lw_all := lw_g (lw_at lw_m1 43 rfl) rfl
theorem q92 : (Jvm.Cond.classLink "CoinNotThere$Routine" (9 : Nat) "CoinNotThere$Beat") ∈ lw_all := lw_g (lw_at lw_m1 44 rfl) rfl
theorem q95 : (Jvm.Cond.methodLinkNest "CoinNotThere$Routine" (25 : Nat) ({ cls := "CoinNotThere$Beat", name := "<init>", desc := "()V" } : Jvm.MethodName) "CoinNotThere") ∈ lw_tbl := lw_at lw_m1 47 rfl
theorem q127 : (Jvm.Cond.fieldLink "CoinNotThere$Routine" (11 : Nat) "CoinNotThere$Routine" "beats" "[LCoinNotThere$Beat;") ∈ lw_all := lw_g (lw_at lw_m1 79 rfl) rfl
theorem q130 : (Jvm.Cond.fieldLink "CoinNotThere$Routine" (17 : Nat) "CoinNotThere$Routine" "stands" "I") ∈ lw_all := lw_g (lw_at lw_m1 82 rfl) rfl
theorem q132 : (Jvm.Cond.fieldLink "CoinNotThere$Routine" (21 : Nat) "CoinNotThere$Routine" "laws" "[I") ∈ lw_all := lw_g (lw_at lw_m1 84 rfl) rfl
theorem q135 : (Jvm.Cond.laysFinal "CoinNotThere$Routine" "CoinNotThere$Routine" "beats" "[LCoinNotThere$Beat;") ∈ lw_all := lw_g (lw_at lw_m1 87 rfl) rfl
theorem q136 : (Jvm.Cond.soleField "CoinNotThere$Routine" "beats") ∈ lw_all := lw_g (lw_at lw_m1 88 rfl) rfl
theorem q137 : (Jvm.Cond.lays "CoinNotThere$Routine" "CoinNotThere$Routine" "stands" "I") ∈ lw_all := lw_g (lw_at lw_m1 89 rfl) rfl
theorem q138 : (Jvm.Cond.soleField "CoinNotThere$Routine" "stands") ∈ lw_all := lw_g (lw_at lw_m1 90 rfl) rfl
theorem q139 : (Jvm.Cond.laysFinal "CoinNotThere$Routine" "CoinNotThere$Routine" "laws" "[I") ∈ lw_all := lw_g (lw_at lw_m1 91 rfl) rfl
theorem q140 : (Jvm.Cond.soleField "CoinNotThere$Routine" "laws") ∈ lw_all := lw_g (lw_at lw_m1 92 rfl) rfl
theorem q141 : (Jvm.Cond.superclass "CoinNotThere$Routine" "java/lang/Object") ∈ lw_all := lw_g (lw_at lw_m1 93 rfl) rfl
theorem q483 : (Jvm.Cond.selects "CoinNotThere$Routine" ({ cls := "java/lang/Object", name := "getClass", desc := "()Ljava/lang/Class;" } : Jvm.MethodName) ({ cls := "java/lang/Object", name := "getClass", desc := "()Ljava/lang/Class;" } : Jvm.MethodName)) ∈ lw_all := lw_g (lw_at lw_m2 195 rfl) rfl
theorem q616 : (Jvm.Cond.instanceMethod ({ cls := "CoinNotThere$Routine", name := "takeFrom", desc := "(LCoinNotThere$Routine;)V" } : Jvm.MethodName)) ∈ lw_all := lw_g (lw_at lw_m3 88 rfl) rfl
theorem q617 : (Jvm.Cond.selects "CoinNotThere$Routine" ({ cls := "CoinNotThere$Routine", name := "takeFrom", desc := "(LCoinNotThere$Routine;)V" } : Jvm.MethodName) ({ cls := "CoinNotThere$Routine", name := "takeFrom", desc := "(LCoinNotThere$Routine;)V" } : Jvm.MethodName)) ∈ lw_all := lw_g (lw_at lw_m3 89 rfl) rfl
theorem q618 : (Jvm.Cond.code ({ cls := "CoinNotThere$Routine", name := "takeFrom", desc := "(LCoinNotThere$Routine;)V" } : Jvm.MethodName) prog_6_method_2_code (3 : Nat) (Option.none : Option Jvm.ClassFile.FieldType)) ∈ lw_all := lw_g (lw_at lw_m3 90 rfl) rfl
theorem q619 : (Jvm.Cond.methodLink "CoinNotThere$Routine" (26 : Nat) ({ cls := "CoinNotThere$Beat", name := "takeFrom", desc := "(LCoinNotThere$Beat;)V" } : Jvm.MethodName)) ∈ lw_all := lw_g (lw_at lw_m3 91 rfl) rfl
theorem q623 : (Jvm.Cond.methodLink "CoinNotThere$Routine" (30 : Nat) ({ cls := "java/lang/System", name := "arraycopy", desc := "(Ljava/lang/Object;ILjava/lang/Object;II)V" } : Jvm.MethodName)) ∈ lw_all := lw_g (lw_at lw_m3 95 rfl) rfl
theorem q739 : (Jvm.Cond.instanceMethod ({ cls := "CoinNotThere$Routine", name := "canSee", desc := "(III)Z" } : Jvm.MethodName)) ∈ lw_all := lw_g (lw_at lw_m3 211 rfl) rfl
theorem q740 : (Jvm.Cond.selects "CoinNotThere$Routine" ({ cls := "CoinNotThere$Routine", name := "canSee", desc := "(III)Z" } : Jvm.MethodName) ({ cls := "CoinNotThere$Routine", name := "canSee", desc := "(III)Z" } : Jvm.MethodName)) ∈ lw_all := lw_g (lw_at lw_m3 212 rfl) rfl
theorem q741 : (Jvm.Cond.code ({ cls := "CoinNotThere$Routine", name := "canSee", desc := "(III)Z" } : Jvm.MethodName) prog_6_method_3_code (5 : Nat) (Option.some Jvm.ClassFile.FieldType.boolean)) ∈ lw_all := lw_g (lw_at lw_m3 213 rfl) rfl
theorem q1387 : (Jvm.Cond.castable "CoinNotThere$Routine" "java/lang/Object") ∈ lw_tbl := lw_at lw_m6 139 rfl
theorem in_X1 : ∀ w ∈ wsX10, w ∈ lw_all := lw_in wsX10 [135, 137, 139] (by decide +kernel) (by decide +kernel)
/-! CoinNotThere$Beat -/
set_option maxRecDepth 100000
def RX2 : String := "CoinNotThere$Beat"
def TX2 : u_T := fun k => match k with
  | 0 => ("CoinNotThere$Beat", "move", "I", false)
  | 1 => ("CoinNotThere$Beat", "slip", "I", false)
  | 2 => ("CoinNotThere$Beat", "looks", "I", false)
  | 3 => ("CoinNotThere$Beat", "names", "I", false)
  | _ => ("CoinNotThere$Beat", "joke", "Z", false)
def tyX2 : Nat → FieldType := fun k => match k with
  | 0 => .int
  | 1 => .int
  | 2 => .int
  | 3 => .int
  | _ => .boolean
abbrev wsX20 : List Cond := u_ws RX2 TX2 5
theorem nmX2 : ∀ a, a < 5 → ∀ b, b < 5 → a ≠ b → (TX2 a).2.1 ≠ (TX2 b).2.1 := by decide +kernel
theorem tyX2_ok : ∀ k, k < 5 → parseFieldDescriptor (TX2 k).2.2.1 = some (tyX2 k) := by decide +kernel
abbrev cX2_init : ByteArray := prog_2_method_1_code
def yX2_init : MethodName := ⟨RX2, "<init>", "()V"⟩
def dkwX2_init_0 : List UInt8 := [42, 183, 0, 3, 42, 16, 252, 181, 0, 9, 42, 16, 252, 181, 0, 15, 177]
abbrev dktX2_init_0 : List UInt8 := dkwX2_init_0 ++ []
theorem dksX2_init_0 : cX2_init.data.toList.drop 0 = dktX2_init_0 := by decide +kernel
theorem dX2_init_0 : decode cX2_init 0 = .ok (.aload_n 0, 1) := dk_42 (dk_at dksX2_init_0 0 rfl rfl)
theorem dX2_init_1 : decode cX2_init 1 = .ok (.invokespecial 3, 3) := dk_183 0 3 (dk_at dksX2_init_0 1 rfl rfl)
theorem dX2_init_4 : decode cX2_init 4 = .ok (.aload_n 0, 1) := dk_42 (dk_at dksX2_init_0 4 rfl rfl)
theorem dX2_init_5 : decode cX2_init 5 = .ok (.bipush (-4), 2) := dk_16 252 (dk_at dksX2_init_0 5 rfl rfl)
theorem dX2_init_7 : decode cX2_init 7 = .ok (.putfield 9, 3) := dk_181 0 9 (dk_at dksX2_init_0 7 rfl rfl)
theorem dX2_init_10 : decode cX2_init 10 = .ok (.aload_n 0, 1) := dk_42 (dk_at dksX2_init_0 10 rfl rfl)
theorem dX2_init_11 : decode cX2_init 11 = .ok (.bipush (-4), 2) := dk_16 252 (dk_at dksX2_init_0 11 rfl rfl)
theorem dX2_init_13 : decode cX2_init 13 = .ok (.putfield 15, 3) := dk_181 0 15 (dk_at dksX2_init_0 13 rfl rfl)
theorem dX2_init_16 : decode cX2_init 16 = .ok (.return_, 1) := dk_177 (dk_at dksX2_init_0 16 rfl rfl)
abbrev cX2_takeFrom : ByteArray := prog_2_method_2_code
def yX2_takeFrom : MethodName := ⟨RX2, "takeFrom", "(LCoinNotThere$Beat;)V"⟩
def dkwX2_takeFrom_1 : List UInt8 := [42, 43, 180, 0, 15, 181, 0, 15, 42, 43, 180, 0, 24, 181, 0, 24, 177]
abbrev dktX2_takeFrom_1 : List UInt8 := dkwX2_takeFrom_1 ++ []
def dkwX2_takeFrom_0 : List UInt8 := [42, 43, 180, 0, 18, 181, 0, 18, 42, 43, 180, 0, 21, 181, 0, 21, 42, 43, 180, 0, 9, 181, 0, 9]
abbrev dktX2_takeFrom_0 : List UInt8 := dkwX2_takeFrom_0 ++ dktX2_takeFrom_1
theorem dksX2_takeFrom_0 : cX2_takeFrom.data.toList.drop 0 = dktX2_takeFrom_0 := by decide +kernel
theorem dksX2_takeFrom_1 : cX2_takeFrom.data.toList.drop 24 = dktX2_takeFrom_1 := dk_seg dksX2_takeFrom_0 24 rfl rfl
theorem dX2_takeFrom_0 : decode cX2_takeFrom 0 = .ok (.aload_n 0, 1) := dk_42 (dk_at dksX2_takeFrom_0 0 rfl rfl)
theorem dX2_takeFrom_1 : decode cX2_takeFrom 1 = .ok (.aload_n 1, 1) := dk_43 (dk_at dksX2_takeFrom_0 1 rfl rfl)
theorem dX2_takeFrom_2 : decode cX2_takeFrom 2 = .ok (.getfield 18, 3) := dk_180 0 18 (dk_at dksX2_takeFrom_0 2 rfl rfl)
theorem dX2_takeFrom_5 : decode cX2_takeFrom 5 = .ok (.putfield 18, 3) := dk_181 0 18 (dk_at dksX2_takeFrom_0 5 rfl rfl)
theorem dX2_takeFrom_8 : decode cX2_takeFrom 8 = .ok (.aload_n 0, 1) := dk_42 (dk_at dksX2_takeFrom_0 8 rfl rfl)
theorem dX2_takeFrom_9 : decode cX2_takeFrom 9 = .ok (.aload_n 1, 1) := dk_43 (dk_at dksX2_takeFrom_0 9 rfl rfl)
theorem dX2_takeFrom_10 : decode cX2_takeFrom 10 = .ok (.getfield 21, 3) := dk_180 0 21 (dk_at dksX2_takeFrom_0 10 rfl rfl)
theorem dX2_takeFrom_13 : decode cX2_takeFrom 13 = .ok (.putfield 21, 3) := dk_181 0 21 (dk_at dksX2_takeFrom_0 13 rfl rfl)
theorem dX2_takeFrom_16 : decode cX2_takeFrom 16 = .ok (.aload_n 0, 1) := dk_42 (dk_at dksX2_takeFrom_0 16 rfl rfl)
theorem dX2_takeFrom_17 : decode cX2_takeFrom 17 = .ok (.aload_n 1, 1) := dk_43 (dk_at dksX2_takeFrom_0 17 rfl rfl)
theorem dX2_takeFrom_18 : decode cX2_takeFrom 18 = .ok (.getfield 9, 3) := dk_180 0 9 (dk_at dksX2_takeFrom_0 18 rfl rfl)
theorem dX2_takeFrom_21 : decode cX2_takeFrom 21 = .ok (.putfield 9, 3) := dk_181 0 9 (dk_at dksX2_takeFrom_0 21 rfl rfl)
theorem dX2_takeFrom_24 : decode cX2_takeFrom 24 = .ok (.aload_n 0, 1) := dk_42 (dk_at dksX2_takeFrom_1 0 rfl rfl)
theorem dX2_takeFrom_25 : decode cX2_takeFrom 25 = .ok (.aload_n 1, 1) := dk_43 (dk_at dksX2_takeFrom_1 1 rfl rfl)
theorem dX2_takeFrom_26 : decode cX2_takeFrom 26 = .ok (.getfield 15, 3) := dk_180 0 15 (dk_at dksX2_takeFrom_1 2 rfl rfl)
theorem dX2_takeFrom_29 : decode cX2_takeFrom 29 = .ok (.putfield 15, 3) := dk_181 0 15 (dk_at dksX2_takeFrom_1 5 rfl rfl)
theorem dX2_takeFrom_32 : decode cX2_takeFrom 32 = .ok (.aload_n 0, 1) := dk_42 (dk_at dksX2_takeFrom_1 8 rfl rfl)
theorem dX2_takeFrom_33 : decode cX2_takeFrom 33 = .ok (.aload_n 1, 1) := dk_43 (dk_at dksX2_takeFrom_1 9 rfl rfl)
theorem dX2_takeFrom_34 : decode cX2_takeFrom 34 = .ok (.getfield 24, 3) := dk_180 0 24 (dk_at dksX2_takeFrom_1 10 rfl rfl)
theorem dX2_takeFrom_37 : decode cX2_takeFrom 37 = .ok (.putfield 24, 3) := dk_181 0 24 (dk_at dksX2_takeFrom_1 13 rfl rfl)
theorem dX2_takeFrom_40 : decode cX2_takeFrom 40 = .ok (.return_, 1) := dk_177 (dk_at dksX2_takeFrom_1 16 rfl rfl)
theorem q51 : (Jvm.Cond.initialized "CoinNotThere$Beat") ∈ lw_all := lw_g (lw_at lw_m1 3 rfl) rfl
theorem q94 : (Jvm.Cond.instantiable "CoinNotThere$Beat" (5 : Nat)) ∈ lw_all := lw_g (lw_at lw_m1 46 rfl) rfl
theorem q96 : (Jvm.Cond.instanceMethod ({ cls := "CoinNotThere$Beat", name := "<init>", desc := "()V" } : Jvm.MethodName)) ∈ lw_all := lw_g (lw_at lw_m1 48 rfl) rfl
theorem q97 : (Jvm.Cond.code ({ cls := "CoinNotThere$Beat", name := "<init>", desc := "()V" } : Jvm.MethodName) prog_2_method_1_code (1 : Nat) (Option.none : Option Jvm.ClassFile.FieldType)) ∈ lw_all := lw_g (lw_at lw_m1 49 rfl) rfl
theorem q98 : (Jvm.Cond.methodLink "CoinNotThere$Beat" (3 : Nat) ({ cls := "java/lang/Object", name := "<init>", desc := "()V" } : Jvm.MethodName)) ∈ lw_all := lw_g (lw_at lw_m1 50 rfl) rfl
theorem q99 : (Jvm.Cond.fieldLink "CoinNotThere$Beat" (18 : Nat) "CoinNotThere$Beat" "move" "I") ∈ lw_all := lw_g (lw_at lw_m1 51 rfl) rfl
theorem q102 : (Jvm.Cond.fieldLink "CoinNotThere$Beat" (21 : Nat) "CoinNotThere$Beat" "slip" "I") ∈ lw_all := lw_g (lw_at lw_m1 54 rfl) rfl
theorem q105 : (Jvm.Cond.fieldLink "CoinNotThere$Beat" (9 : Nat) "CoinNotThere$Beat" "looks" "I") ∈ lw_all := lw_g (lw_at lw_m1 57 rfl) rfl
theorem q109 : (Jvm.Cond.fieldLink "CoinNotThere$Beat" (15 : Nat) "CoinNotThere$Beat" "names" "I") ∈ lw_all := lw_g (lw_at lw_m1 61 rfl) rfl
theorem q112 : (Jvm.Cond.fieldLink "CoinNotThere$Beat" (24 : Nat) "CoinNotThere$Beat" "joke" "Z") ∈ lw_all := lw_g (lw_at lw_m1 64 rfl) rfl
theorem q115 : (Jvm.Cond.lays "CoinNotThere$Beat" "CoinNotThere$Beat" "move" "I") ∈ lw_all := lw_g (lw_at lw_m1 67 rfl) rfl
theorem q116 : (Jvm.Cond.soleField "CoinNotThere$Beat" "move") ∈ lw_all := lw_g (lw_at lw_m1 68 rfl) rfl
theorem q117 : (Jvm.Cond.lays "CoinNotThere$Beat" "CoinNotThere$Beat" "slip" "I") ∈ lw_all := lw_g (lw_at lw_m1 69 rfl) rfl
theorem q118 : (Jvm.Cond.soleField "CoinNotThere$Beat" "slip") ∈ lw_all := lw_g (lw_at lw_m1 70 rfl) rfl
theorem q119 : (Jvm.Cond.lays "CoinNotThere$Beat" "CoinNotThere$Beat" "looks" "I") ∈ lw_all := lw_g (lw_at lw_m1 71 rfl) rfl
theorem q120 : (Jvm.Cond.soleField "CoinNotThere$Beat" "looks") ∈ lw_all := lw_g (lw_at lw_m1 72 rfl) rfl
theorem q121 : (Jvm.Cond.lays "CoinNotThere$Beat" "CoinNotThere$Beat" "names" "I") ∈ lw_all := lw_g (lw_at lw_m1 73 rfl) rfl
theorem q122 : (Jvm.Cond.soleField "CoinNotThere$Beat" "names") ∈ lw_all := lw_g (lw_at lw_m1 74 rfl) rfl
theorem q123 : (Jvm.Cond.lays "CoinNotThere$Beat" "CoinNotThere$Beat" "joke" "Z") ∈ lw_all := lw_g (lw_at lw_m1 75 rfl) rfl
theorem q124 : (Jvm.Cond.soleField "CoinNotThere$Beat" "joke") ∈ lw_all := lw_g (lw_at lw_m1 76 rfl) rfl
theorem q125 : (Jvm.Cond.superclass "CoinNotThere$Beat" "java/lang/Object") ∈ lw_all := lw_g (lw_at lw_m1 77 rfl) rfl
theorem q479 : (Jvm.Cond.selects "CoinNotThere$Beat" ({ cls := "java/lang/Object", name := "getClass", desc := "()Ljava/lang/Class;" } : Jvm.MethodName) ({ cls := "java/lang/Object", name := "getClass", desc := "()Ljava/lang/Class;" } : Jvm.MethodName)) ∈ lw_all := lw_g (lw_at lw_m2 191 rfl) rfl
theorem q620 : (Jvm.Cond.instanceMethod ({ cls := "CoinNotThere$Beat", name := "takeFrom", desc := "(LCoinNotThere$Beat;)V" } : Jvm.MethodName)) ∈ lw_all := lw_g (lw_at lw_m3 92 rfl) rfl
theorem q621 : (Jvm.Cond.selects "CoinNotThere$Beat" ({ cls := "CoinNotThere$Beat", name := "takeFrom", desc := "(LCoinNotThere$Beat;)V" } : Jvm.MethodName) ({ cls := "CoinNotThere$Beat", name := "takeFrom", desc := "(LCoinNotThere$Beat;)V" } : Jvm.MethodName)) ∈ lw_all := lw_g (lw_at lw_m3 93 rfl) rfl
theorem q622 : (Jvm.Cond.code ({ cls := "CoinNotThere$Beat", name := "takeFrom", desc := "(LCoinNotThere$Beat;)V" } : Jvm.MethodName) prog_2_method_2_code (2 : Nat) (Option.none : Option Jvm.ClassFile.FieldType)) ∈ lw_all := lw_g (lw_at lw_m3 94 rfl) rfl
theorem q1384 : (Jvm.Cond.castable "CoinNotThere$Beat" "java/lang/Object") ∈ lw_tbl := lw_at lw_m6 136 rfl
theorem in_X2 : ∀ w ∈ wsX20, w ∈ lw_all := lw_in wsX20 [115, 117, 119, 121, 123] (by decide +kernel) (by decide +kernel)
/-! CoinNotThere$Fault -/
set_option maxRecDepth 100000
def RX3 : String := "CoinNotThere$Fault"
def TX3 : u_T := fun k => match k with
  | 0 => ("java/lang/Throwable", "cause", "Ljava/lang/Throwable;", false)
  | 1 => ("java/lang/Throwable", "stackTrace", "[Ljava/lang/StackTraceElement;", false)
  | 2 => ("java/lang/Throwable", "suppressedExceptions", "Ljava/util/List;", false)
  | 3 => ("java/lang/Throwable", "detailMessage", "Ljava/lang/String;", false)
  | 4 => ("java/lang/Throwable", "backtrace", "Ljava/lang/Object;", false)
  | 5 => ("java/lang/Throwable", "depth", "I", false)
  | _ => ("CoinNotThere$Fault", "place", "I", false)
def tyX3 : Nat → FieldType := fun k => match k with
  | 0 => .object "java/lang/Throwable"
  | 1 => .array (.object "java/lang/StackTraceElement")
  | 2 => .object "java/util/List"
  | 3 => .object "java/lang/String"
  | 4 => .object "java/lang/Object"
  | 5 => .int
  | _ => .int
abbrev wsX30 : List Cond := u_ws RX3 TX3 7
theorem nmX3 : ∀ a, a < 7 → ∀ b, b < 7 → a ≠ b → (TX3 a).2.1 ≠ (TX3 b).2.1 := by decide +kernel
theorem tyX3_ok : ∀ k, k < 7 → parseFieldDescriptor (TX3 k).2.2.1 = some (tyX3 k) := by decide +kernel
abbrev cX3_init : ByteArray := prog_5_method_1_code
def yX3_init : MethodName := ⟨RX3, "<init>", "()V"⟩
def dkwX3_init_0 : List UInt8 := [42, 1, 1, 3, 3, 183, 0, 1, 177]
abbrev dktX3_init_0 : List UInt8 := dkwX3_init_0 ++ []
theorem dksX3_init_0 : cX3_init.data.toList.drop 0 = dktX3_init_0 := by decide +kernel
theorem dX3_init_0 : decode cX3_init 0 = .ok (.aload_n 0, 1) := dk_42 (dk_at dksX3_init_0 0 rfl rfl)
theorem dX3_init_1 : decode cX3_init 1 = .ok (.aconst_null, 1) := dk_1 (dk_at dksX3_init_0 1 rfl rfl)
theorem dX3_init_2 : decode cX3_init 2 = .ok (.aconst_null, 1) := dk_1 (dk_at dksX3_init_0 2 rfl rfl)
theorem dX3_init_3 : decode cX3_init 3 = .ok (.iconst 0, 1) := dk_3 (dk_at dksX3_init_0 3 rfl rfl)
theorem dX3_init_4 : decode cX3_init 4 = .ok (.iconst 0, 1) := dk_3 (dk_at dksX3_init_0 4 rfl rfl)
theorem dX3_init_5 : decode cX3_init 5 = .ok (.invokespecial 1, 3) := dk_183 0 1 (dk_at dksX3_init_0 5 rfl rfl)
theorem dX3_init_8 : decode cX3_init 8 = .ok (.return_, 1) := dk_177 (dk_at dksX3_init_0 8 rfl rfl)
theorem q57 : (Jvm.Cond.initialized "CoinNotThere$Fault") ∈ lw_all := lw_g (lw_at lw_m1 9 rfl) rfl
theorem q169 : (Jvm.Cond.instantiable "CoinNotThere$Fault" (7 : Nat)) ∈ lw_all := lw_g (lw_at lw_m1 121 rfl) rfl
theorem q170 : (Jvm.Cond.castable "CoinNotThere$Fault" "CoinNotThere$Fault") ∈ lw_tbl := lw_at lw_m1 122 rfl
theorem q175 : (Jvm.Cond.selects "CoinNotThere$Fault" ({ cls := "java/lang/Throwable", name := "fillInStackTrace", desc := "(I)Ljava/lang/Throwable;" } : Jvm.MethodName) ({ cls := "java/lang/Throwable", name := "fillInStackTrace", desc := "(I)Ljava/lang/Throwable;" } : Jvm.MethodName)) ∈ lw_all := lw_g (lw_at lw_m1 127 rfl) rfl
theorem q176 : (Jvm.Cond.selects "CoinNotThere$Fault" ({ cls := "java/lang/Throwable", name := "fillInStackTrace", desc := "()Ljava/lang/Throwable;" } : Jvm.MethodName) ({ cls := "java/lang/Throwable", name := "fillInStackTrace", desc := "()Ljava/lang/Throwable;" } : Jvm.MethodName)) ∈ lw_all := lw_g (lw_at lw_m1 128 rfl) rfl
theorem q177 : (Jvm.Cond.lays "CoinNotThere$Fault" "java/lang/Throwable" "cause" "Ljava/lang/Throwable;") ∈ lw_all := lw_g (lw_at lw_m1 129 rfl) rfl
theorem q179 : (Jvm.Cond.lays "CoinNotThere$Fault" "java/lang/Throwable" "stackTrace" "[Ljava/lang/StackTraceElement;") ∈ lw_all := lw_g (lw_at lw_m1 131 rfl) rfl
theorem q181 : (Jvm.Cond.lays "CoinNotThere$Fault" "java/lang/Throwable" "suppressedExceptions" "Ljava/util/List;") ∈ lw_all := lw_g (lw_at lw_m1 133 rfl) rfl
theorem q183 : (Jvm.Cond.lays "CoinNotThere$Fault" "java/lang/Throwable" "detailMessage" "Ljava/lang/String;") ∈ lw_all := lw_g (lw_at lw_m1 135 rfl) rfl
theorem q185 : (Jvm.Cond.lays "CoinNotThere$Fault" "java/lang/Throwable" "backtrace" "Ljava/lang/Object;") ∈ lw_all := lw_g (lw_at lw_m1 137 rfl) rfl
theorem q224 : (Jvm.Cond.instanceMethod ({ cls := "CoinNotThere$Fault", name := "<init>", desc := "()V" } : Jvm.MethodName)) ∈ lw_all := lw_g (lw_at lw_m1 176 rfl) rfl
theorem q225 : (Jvm.Cond.code ({ cls := "CoinNotThere$Fault", name := "<init>", desc := "()V" } : Jvm.MethodName) prog_5_method_1_code (1 : Nat) (Option.none : Option Jvm.ClassFile.FieldType)) ∈ lw_all := lw_g (lw_at lw_m1 177 rfl) rfl
theorem q226 : (Jvm.Cond.methodLink "CoinNotThere$Fault" (1 : Nat) ({ cls := "java/lang/Exception", name := "<init>", desc := "(Ljava/lang/String;Ljava/lang/Throwable;ZZ)V" } : Jvm.MethodName)) ∈ lw_all := lw_g (lw_at lw_m1 178 rfl) rfl
theorem q238 : (Jvm.Cond.lays "CoinNotThere$Fault" "CoinNotThere$Fault" "place" "I") ∈ lw_all := lw_g (lw_at lw_m1 190 rfl) rfl
theorem q239 : (Jvm.Cond.soleField "CoinNotThere$Fault" "place") ∈ lw_all := lw_g (lw_at lw_m1 191 rfl) rfl
theorem q244 : (Jvm.Cond.lays "CoinNotThere$Fault" "java/lang/Throwable" "depth" "I") ∈ lw_all := lw_g (lw_at lw_m1 196 rfl) rfl
theorem q247 : (Jvm.Cond.superclass "CoinNotThere$Fault" "java/lang/Exception") ∈ lw_all := lw_g (lw_at lw_m1 199 rfl) rfl
theorem q482 : (Jvm.Cond.selects "CoinNotThere$Fault" ({ cls := "java/lang/Object", name := "getClass", desc := "()Ljava/lang/Class;" } : Jvm.MethodName) ({ cls := "java/lang/Object", name := "getClass", desc := "()Ljava/lang/Class;" } : Jvm.MethodName)) ∈ lw_all := lw_g (lw_at lw_m2 194 rfl) rfl
theorem q1389 : (Jvm.Cond.castable "CoinNotThere$Fault" "java/lang/Object") ∈ lw_tbl := lw_at lw_m6 141 rfl
theorem in_X3 : ∀ w ∈ wsX30, w ∈ lw_all := lw_in wsX30 [177, 179, 181, 183, 185, 244, 238] (by decide +kernel) (by decide +kernel)
/-! CoinNotThere$Watcher -/
set_option maxRecDepth 100000
def RX4 : String := "CoinNotThere$Watcher"
def TX4 : u_T := fun k => match k with
  | _ => ("CoinNotThere$Watcher", "seat", "I", true)
def tyX4 : Nat → FieldType := fun k => match k with
  | _ => .int
abbrev wsX40 : List Cond := u_ws RX4 TX4 1
theorem nmX4 : ∀ a, a < 1 → ∀ b, b < 1 → a ≠ b → (TX4 a).2.1 ≠ (TX4 b).2.1 := by decide +kernel
theorem tyX4_ok : ∀ k, k < 1 → parseFieldDescriptor (TX4 k).2.2.1 = some (tyX4 k) := by decide +kernel
abbrev cX4_init : ByteArray := prog_9_method_1_code
def yX4_init : MethodName := ⟨RX4, "<init>", "(I)V"⟩
def dkwX4_init_0 : List UInt8 := [42, 183, 0, 3, 42, 27, 181, 0, 9, 177]
abbrev dktX4_init_0 : List UInt8 := dkwX4_init_0 ++ []
theorem dksX4_init_0 : cX4_init.data.toList.drop 0 = dktX4_init_0 := by decide +kernel
theorem dX4_init_0 : decode cX4_init 0 = .ok (.aload_n 0, 1) := dk_42 (dk_at dksX4_init_0 0 rfl rfl)
theorem dX4_init_1 : decode cX4_init 1 = .ok (.invokespecial 3, 3) := dk_183 0 3 (dk_at dksX4_init_0 1 rfl rfl)
theorem dX4_init_4 : decode cX4_init 4 = .ok (.aload_n 0, 1) := dk_42 (dk_at dksX4_init_0 4 rfl rfl)
theorem dX4_init_5 : decode cX4_init 5 = .ok (.iload_n 1, 1) := dk_27 (dk_at dksX4_init_0 5 rfl rfl)
theorem dX4_init_6 : decode cX4_init 6 = .ok (.putfield 9, 3) := dk_181 0 9 (dk_at dksX4_init_0 6 rfl rfl)
theorem dX4_init_9 : decode cX4_init 9 = .ok (.return_, 1) := dk_177 (dk_at dksX4_init_0 9 rfl rfl)
abbrev cX4_kind : ByteArray := prog_9_method_2_code
def yX4_kind : MethodName := ⟨RX4, "kind", "()I"⟩
theorem dX4_kind_0 : decode cX4_kind 0 = .ok (.iconst 0, 1) := by decide +kernel
theorem dX4_kind_1 : decode cX4_kind 1 = .ok (.ireturn, 1) := by decide +kernel
abbrev cX4_heed : ByteArray := prog_9_method_6_code
def yX4_heed : MethodName := ⟨RX4, "heed", "(LCoinNotThere$Routine;I)I"⟩
def dkwX4_heed_3 : List UInt8 := [153, 0, 7, 3, 167, 0, 4, 29, 62, 132, 4, 1, 167, 255, 182, 29, 172]
abbrev dktX4_heed_3 : List UInt8 := dkwX4_heed_3 ++ []
def dkwX4_heed_2 : List UInt8 := [3, 29, 5, 100, 184, 0, 53, 167, 0, 4, 29, 62, 43, 180, 0, 36, 21, 4, 50, 180, 0, 56]
abbrev dktX4_heed_2 : List UInt8 := dkwX4_heed_2 ++ dktX4_heed_3
def dkwX4_heed_1 : List UInt8 := [184, 0, 47, 62, 43, 180, 0, 36, 21, 4, 50, 180, 0, 20, 155, 0, 20, 42, 182, 0, 23, 153, 0, 13]
abbrev dktX4_heed_1 : List UInt8 := dkwX4_heed_1 ++ dktX4_heed_2
def dkwX4_heed_0 : List UInt8 := [16, 9, 62, 3, 54, 4, 21, 4, 28, 163, 0, 74, 16, 9, 29, 43, 180, 0, 27, 5, 46, 96]
abbrev dktX4_heed_0 : List UInt8 := dkwX4_heed_0 ++ dktX4_heed_1
theorem dksX4_heed_0 : cX4_heed.data.toList.drop 0 = dktX4_heed_0 := by decide +kernel
theorem dksX4_heed_1 : cX4_heed.data.toList.drop 22 = dktX4_heed_1 := dk_seg dksX4_heed_0 22 rfl rfl
theorem dksX4_heed_2 : cX4_heed.data.toList.drop 46 = dktX4_heed_2 := dk_seg dksX4_heed_1 24 rfl rfl
theorem dksX4_heed_3 : cX4_heed.data.toList.drop 68 = dktX4_heed_3 := dk_seg dksX4_heed_2 22 rfl rfl
theorem dX4_heed_0 : decode cX4_heed 0 = .ok (.bipush 9, 2) := dk_16 9 (dk_at dksX4_heed_0 0 rfl rfl)
theorem dX4_heed_2 : decode cX4_heed 2 = .ok (.istore_n 3, 1) := dk_62 (dk_at dksX4_heed_0 2 rfl rfl)
theorem dX4_heed_3 : decode cX4_heed 3 = .ok (.iconst 0, 1) := dk_3 (dk_at dksX4_heed_0 3 rfl rfl)
theorem dX4_heed_4 : decode cX4_heed 4 = .ok (.istore 4, 2) := dk_54 4 (dk_at dksX4_heed_0 4 rfl rfl)
theorem dX4_heed_6 : decode cX4_heed 6 = .ok (.iload 4, 2) := dk_21 4 (dk_at dksX4_heed_0 6 rfl rfl)
theorem dX4_heed_8 : decode cX4_heed 8 = .ok (.iload_n 2, 1) := dk_28 (dk_at dksX4_heed_0 8 rfl rfl)
theorem dX4_heed_9 : decode cX4_heed 9 = .ok (.if_icmp .gt 74, 3) := dk_163 0 74 (dk_at dksX4_heed_0 9 rfl rfl)
theorem dX4_heed_12 : decode cX4_heed 12 = .ok (.bipush 9, 2) := dk_16 9 (dk_at dksX4_heed_0 12 rfl rfl)
theorem dX4_heed_14 : decode cX4_heed 14 = .ok (.iload_n 3, 1) := dk_29 (dk_at dksX4_heed_0 14 rfl rfl)
theorem dX4_heed_15 : decode cX4_heed 15 = .ok (.aload_n 1, 1) := dk_43 (dk_at dksX4_heed_0 15 rfl rfl)
theorem dX4_heed_16 : decode cX4_heed 16 = .ok (.getfield 27, 3) := dk_180 0 27 (dk_at dksX4_heed_0 16 rfl rfl)
theorem dX4_heed_19 : decode cX4_heed 19 = .ok (.iconst 2, 1) := dk_5 (dk_at dksX4_heed_0 19 rfl rfl)
theorem dX4_heed_20 : decode cX4_heed 20 = .ok (.iaload, 1) := dk_46 (dk_at dksX4_heed_0 20 rfl rfl)
theorem dX4_heed_21 : decode cX4_heed 21 = .ok (.iadd, 1) := dk_96 (dk_at dksX4_heed_0 21 rfl rfl)
theorem dX4_heed_22 : decode cX4_heed 22 = .ok (.invokestatic 47, 3) := dk_184 0 47 (dk_at dksX4_heed_1 0 rfl rfl)
theorem dX4_heed_25 : decode cX4_heed 25 = .ok (.istore_n 3, 1) := dk_62 (dk_at dksX4_heed_1 3 rfl rfl)
theorem dX4_heed_26 : decode cX4_heed 26 = .ok (.aload_n 1, 1) := dk_43 (dk_at dksX4_heed_1 4 rfl rfl)
theorem dX4_heed_27 : decode cX4_heed 27 = .ok (.getfield 36, 3) := dk_180 0 36 (dk_at dksX4_heed_1 5 rfl rfl)
theorem dX4_heed_30 : decode cX4_heed 30 = .ok (.iload 4, 2) := dk_21 4 (dk_at dksX4_heed_1 8 rfl rfl)
theorem dX4_heed_32 : decode cX4_heed 32 = .ok (.aaload, 1) := dk_50 (dk_at dksX4_heed_1 10 rfl rfl)
theorem dX4_heed_33 : decode cX4_heed 33 = .ok (.getfield 20, 3) := dk_180 0 20 (dk_at dksX4_heed_1 11 rfl rfl)
theorem dX4_heed_36 : decode cX4_heed 36 = .ok (.ifCond .lt 20, 3) := dk_155 0 20 (dk_at dksX4_heed_1 14 rfl rfl)
theorem dX4_heed_39 : decode cX4_heed 39 = .ok (.aload_n 0, 1) := dk_42 (dk_at dksX4_heed_1 17 rfl rfl)
theorem dX4_heed_40 : decode cX4_heed 40 = .ok (.invokevirtual 23, 3) := dk_182 0 23 (dk_at dksX4_heed_1 18 rfl rfl)
theorem dX4_heed_43 : decode cX4_heed 43 = .ok (.ifCond .eq 13, 3) := dk_153 0 13 (dk_at dksX4_heed_1 21 rfl rfl)
theorem dX4_heed_46 : decode cX4_heed 46 = .ok (.iconst 0, 1) := dk_3 (dk_at dksX4_heed_2 0 rfl rfl)
theorem dX4_heed_47 : decode cX4_heed 47 = .ok (.iload_n 3, 1) := dk_29 (dk_at dksX4_heed_2 1 rfl rfl)
theorem dX4_heed_48 : decode cX4_heed 48 = .ok (.iconst 2, 1) := dk_5 (dk_at dksX4_heed_2 2 rfl rfl)
theorem dX4_heed_49 : decode cX4_heed 49 = .ok (.isub, 1) := dk_100 (dk_at dksX4_heed_2 3 rfl rfl)
theorem dX4_heed_50 : decode cX4_heed 50 = .ok (.invokestatic 53, 3) := dk_184 0 53 (dk_at dksX4_heed_2 4 rfl rfl)
theorem dX4_heed_53 : decode cX4_heed 53 = .ok (.goto 4, 3) := dk_167 0 4 (dk_at dksX4_heed_2 7 rfl rfl)
theorem dX4_heed_56 : decode cX4_heed 56 = .ok (.iload_n 3, 1) := dk_29 (dk_at dksX4_heed_2 10 rfl rfl)
theorem dX4_heed_57 : decode cX4_heed 57 = .ok (.istore_n 3, 1) := dk_62 (dk_at dksX4_heed_2 11 rfl rfl)
theorem dX4_heed_58 : decode cX4_heed 58 = .ok (.aload_n 1, 1) := dk_43 (dk_at dksX4_heed_2 12 rfl rfl)
theorem dX4_heed_59 : decode cX4_heed 59 = .ok (.getfield 36, 3) := dk_180 0 36 (dk_at dksX4_heed_2 13 rfl rfl)
theorem dX4_heed_62 : decode cX4_heed 62 = .ok (.iload 4, 2) := dk_21 4 (dk_at dksX4_heed_2 16 rfl rfl)
theorem dX4_heed_64 : decode cX4_heed 64 = .ok (.aaload, 1) := dk_50 (dk_at dksX4_heed_2 18 rfl rfl)
theorem dX4_heed_65 : decode cX4_heed 65 = .ok (.getfield 56, 3) := dk_180 0 56 (dk_at dksX4_heed_2 19 rfl rfl)
theorem dX4_heed_68 : decode cX4_heed 68 = .ok (.ifCond .eq 7, 3) := dk_153 0 7 (dk_at dksX4_heed_3 0 rfl rfl)
theorem dX4_heed_71 : decode cX4_heed 71 = .ok (.iconst 0, 1) := dk_3 (dk_at dksX4_heed_3 3 rfl rfl)
theorem dX4_heed_72 : decode cX4_heed 72 = .ok (.goto 4, 3) := dk_167 0 4 (dk_at dksX4_heed_3 4 rfl rfl)
theorem dX4_heed_75 : decode cX4_heed 75 = .ok (.iload_n 3, 1) := dk_29 (dk_at dksX4_heed_3 7 rfl rfl)
theorem dX4_heed_76 : decode cX4_heed 76 = .ok (.istore_n 3, 1) := dk_62 (dk_at dksX4_heed_3 8 rfl rfl)
theorem dX4_heed_77 : decode cX4_heed 77 = .ok (.iinc 4 1, 3) := dk_132 4 1 (dk_at dksX4_heed_3 9 rfl rfl)
theorem dX4_heed_80 : decode cX4_heed 80 = .ok (.goto (-74), 3) := dk_167 255 182 (dk_at dksX4_heed_3 12 rfl rfl)
theorem dX4_heed_83 : decode cX4_heed 83 = .ok (.iload_n 3, 1) := dk_29 (dk_at dksX4_heed_3 15 rfl rfl)
theorem dX4_heed_84 : decode cX4_heed 84 = .ok (.ireturn, 1) := dk_172 (dk_at dksX4_heed_3 16 rfl rfl)
abbrev cX4_listens : ByteArray := prog_9_method_3_code
def yX4_listens : MethodName := ⟨RX4, "listens", "()Z"⟩
theorem dX4_listens_0 : decode cX4_listens 0 = .ok (.iconst 1, 1) := by decide +kernel
theorem dX4_listens_1 : decode cX4_listens 1 = .ok (.ireturn, 1) := by decide +kernel
abbrev cX4_pull : ByteArray := prog_9_method_5_code
def yX4_pull : MethodName := ⟨RX4, "pull", "(LCoinNotThere$Routine;III)I"⟩
def dkwX4_pull_2 : List UInt8 := [25, 5, 29, 182, 0, 43, 21, 6, 96, 172]
abbrev dktX4_pull_2 : List UInt8 := dkwX4_pull_2 ++ []
def dkwX4_pull_1 : List UInt8 := [29, 160, 0, 17, 43, 180, 0, 27, 6, 46, 21, 4, 4, 100, 104, 167, 0, 4, 3, 54, 6, 42, 43]
abbrev dktX4_pull_1 : List UInt8 := dkwX4_pull_1 ++ dktX4_pull_2
def dkwX4_pull_0 : List UInt8 := [43, 180, 0, 36, 28, 50, 58, 5, 25, 5, 180, 0, 40, 158, 0, 29, 25, 5, 180, 0, 40, 16, 10, 108]
abbrev dktX4_pull_0 : List UInt8 := dkwX4_pull_0 ++ dktX4_pull_1
theorem dksX4_pull_0 : cX4_pull.data.toList.drop 0 = dktX4_pull_0 := by decide +kernel
theorem dksX4_pull_1 : cX4_pull.data.toList.drop 24 = dktX4_pull_1 := dk_seg dksX4_pull_0 24 rfl rfl
theorem dksX4_pull_2 : cX4_pull.data.toList.drop 47 = dktX4_pull_2 := dk_seg dksX4_pull_1 23 rfl rfl
theorem dX4_pull_0 : decode cX4_pull 0 = .ok (.aload_n 1, 1) := dk_43 (dk_at dksX4_pull_0 0 rfl rfl)
theorem dX4_pull_1 : decode cX4_pull 1 = .ok (.getfield 36, 3) := dk_180 0 36 (dk_at dksX4_pull_0 1 rfl rfl)
theorem dX4_pull_4 : decode cX4_pull 4 = .ok (.iload_n 2, 1) := dk_28 (dk_at dksX4_pull_0 4 rfl rfl)
theorem dX4_pull_5 : decode cX4_pull 5 = .ok (.aaload, 1) := dk_50 (dk_at dksX4_pull_0 5 rfl rfl)
theorem dX4_pull_6 : decode cX4_pull 6 = .ok (.astore 5, 2) := dk_58 5 (dk_at dksX4_pull_0 6 rfl rfl)
theorem dX4_pull_8 : decode cX4_pull 8 = .ok (.aload 5, 2) := dk_25 5 (dk_at dksX4_pull_0 8 rfl rfl)
theorem dX4_pull_10 : decode cX4_pull 10 = .ok (.getfield 40, 3) := dk_180 0 40 (dk_at dksX4_pull_0 10 rfl rfl)
theorem dX4_pull_13 : decode cX4_pull 13 = .ok (.ifCond .le 29, 3) := dk_158 0 29 (dk_at dksX4_pull_0 13 rfl rfl)
theorem dX4_pull_16 : decode cX4_pull 16 = .ok (.aload 5, 2) := dk_25 5 (dk_at dksX4_pull_0 16 rfl rfl)
theorem dX4_pull_18 : decode cX4_pull 18 = .ok (.getfield 40, 3) := dk_180 0 40 (dk_at dksX4_pull_0 18 rfl rfl)
theorem dX4_pull_21 : decode cX4_pull 21 = .ok (.bipush 10, 2) := dk_16 10 (dk_at dksX4_pull_0 21 rfl rfl)
theorem dX4_pull_23 : decode cX4_pull 23 = .ok (.idiv, 1) := dk_108 (dk_at dksX4_pull_0 23 rfl rfl)
theorem dX4_pull_24 : decode cX4_pull 24 = .ok (.iload_n 3, 1) := dk_29 (dk_at dksX4_pull_1 0 rfl rfl)
theorem dX4_pull_25 : decode cX4_pull 25 = .ok (.if_icmp .ne 17, 3) := dk_160 0 17 (dk_at dksX4_pull_1 1 rfl rfl)
theorem dX4_pull_28 : decode cX4_pull 28 = .ok (.aload_n 1, 1) := dk_43 (dk_at dksX4_pull_1 4 rfl rfl)
theorem dX4_pull_29 : decode cX4_pull 29 = .ok (.getfield 27, 3) := dk_180 0 27 (dk_at dksX4_pull_1 5 rfl rfl)
theorem dX4_pull_32 : decode cX4_pull 32 = .ok (.iconst 3, 1) := dk_6 (dk_at dksX4_pull_1 8 rfl rfl)
theorem dX4_pull_33 : decode cX4_pull 33 = .ok (.iaload, 1) := dk_46 (dk_at dksX4_pull_1 9 rfl rfl)
theorem dX4_pull_34 : decode cX4_pull 34 = .ok (.iload 4, 2) := dk_21 4 (dk_at dksX4_pull_1 10 rfl rfl)
theorem dX4_pull_36 : decode cX4_pull 36 = .ok (.iconst 1, 1) := dk_4 (dk_at dksX4_pull_1 12 rfl rfl)
theorem dX4_pull_37 : decode cX4_pull 37 = .ok (.isub, 1) := dk_100 (dk_at dksX4_pull_1 13 rfl rfl)
theorem dX4_pull_38 : decode cX4_pull 38 = .ok (.imul, 1) := dk_104 (dk_at dksX4_pull_1 14 rfl rfl)
theorem dX4_pull_39 : decode cX4_pull 39 = .ok (.goto 4, 3) := dk_167 0 4 (dk_at dksX4_pull_1 15 rfl rfl)
theorem dX4_pull_42 : decode cX4_pull 42 = .ok (.iconst 0, 1) := dk_3 (dk_at dksX4_pull_1 18 rfl rfl)
theorem dX4_pull_43 : decode cX4_pull 43 = .ok (.istore 6, 2) := dk_54 6 (dk_at dksX4_pull_1 19 rfl rfl)
theorem dX4_pull_45 : decode cX4_pull 45 = .ok (.aload_n 0, 1) := dk_42 (dk_at dksX4_pull_1 21 rfl rfl)
theorem dX4_pull_46 : decode cX4_pull 46 = .ok (.aload_n 1, 1) := dk_43 (dk_at dksX4_pull_1 22 rfl rfl)
theorem dX4_pull_47 : decode cX4_pull 47 = .ok (.aload 5, 2) := dk_25 5 (dk_at dksX4_pull_2 0 rfl rfl)
theorem dX4_pull_49 : decode cX4_pull 49 = .ok (.iload_n 3, 1) := dk_29 (dk_at dksX4_pull_2 2 rfl rfl)
theorem dX4_pull_50 : decode cX4_pull 50 = .ok (.invokevirtual 43, 3) := dk_182 0 43 (dk_at dksX4_pull_2 3 rfl rfl)
theorem dX4_pull_53 : decode cX4_pull 53 = .ok (.iload 6, 2) := dk_21 6 (dk_at dksX4_pull_2 6 rfl rfl)
theorem dX4_pull_55 : decode cX4_pull 55 = .ok (.iadd, 1) := dk_96 (dk_at dksX4_pull_2 8 rfl rfl)
theorem dX4_pull_56 : decode cX4_pull 56 = .ok (.ireturn, 1) := dk_172 (dk_at dksX4_pull_2 9 rfl rfl)
abbrev cX4_draws : ByteArray := prog_9_method_4_code
def yX4_draws : MethodName := ⟨RX4, "draws", "(LCoinNotThere$Routine;LCoinNotThere$Beat;I)I"⟩
def dkwX4_draws_3 : List UInt8 := [180, 0, 27, 3, 46, 167, 0, 4, 3, 96, 21, 5, 96, 172]
abbrev dktX4_draws_3 : List UInt8 := dkwX4_draws_3 ++ []
def dkwX4_draws_2 : List UInt8 := [180, 0, 27, 4, 46, 167, 0, 4, 3, 54, 5, 4, 21, 4, 96, 44, 180, 0, 33, 29, 160, 0, 12, 43]
abbrev dktX4_draws_2 : List UInt8 := dkwX4_draws_2 ++ dktX4_draws_3
def dkwX4_draws_1 : List UInt8 := [112, 167, 0, 4, 3, 54, 4, 44, 180, 0, 20, 29, 160, 0, 19, 42, 182, 0, 23, 153, 0, 12, 43]
abbrev dktX4_draws_1 : List UInt8 := dkwX4_draws_1 ++ dktX4_draws_2
def dkwX4_draws_0 : List UInt8 := [44, 180, 0, 15, 158, 0, 24, 44, 180, 0, 15, 16, 10, 108, 29, 160, 0, 13, 44, 180, 0, 15, 16, 10]
abbrev dktX4_draws_0 : List UInt8 := dkwX4_draws_0 ++ dktX4_draws_1
theorem dksX4_draws_0 : cX4_draws.data.toList.drop 0 = dktX4_draws_0 := by decide +kernel
theorem dksX4_draws_1 : cX4_draws.data.toList.drop 24 = dktX4_draws_1 := dk_seg dksX4_draws_0 24 rfl rfl
theorem dksX4_draws_2 : cX4_draws.data.toList.drop 47 = dktX4_draws_2 := dk_seg dksX4_draws_1 23 rfl rfl
theorem dksX4_draws_3 : cX4_draws.data.toList.drop 71 = dktX4_draws_3 := dk_seg dksX4_draws_2 24 rfl rfl
theorem dX4_draws_0 : decode cX4_draws 0 = .ok (.aload_n 2, 1) := dk_44 (dk_at dksX4_draws_0 0 rfl rfl)
theorem dX4_draws_1 : decode cX4_draws 1 = .ok (.getfield 15, 3) := dk_180 0 15 (dk_at dksX4_draws_0 1 rfl rfl)
theorem dX4_draws_4 : decode cX4_draws 4 = .ok (.ifCond .le 24, 3) := dk_158 0 24 (dk_at dksX4_draws_0 4 rfl rfl)
theorem dX4_draws_7 : decode cX4_draws 7 = .ok (.aload_n 2, 1) := dk_44 (dk_at dksX4_draws_0 7 rfl rfl)
theorem dX4_draws_8 : decode cX4_draws 8 = .ok (.getfield 15, 3) := dk_180 0 15 (dk_at dksX4_draws_0 8 rfl rfl)
theorem dX4_draws_11 : decode cX4_draws 11 = .ok (.bipush 10, 2) := dk_16 10 (dk_at dksX4_draws_0 11 rfl rfl)
theorem dX4_draws_13 : decode cX4_draws 13 = .ok (.idiv, 1) := dk_108 (dk_at dksX4_draws_0 13 rfl rfl)
theorem dX4_draws_14 : decode cX4_draws 14 = .ok (.iload_n 3, 1) := dk_29 (dk_at dksX4_draws_0 14 rfl rfl)
theorem dX4_draws_15 : decode cX4_draws 15 = .ok (.if_icmp .ne 13, 3) := dk_160 0 13 (dk_at dksX4_draws_0 15 rfl rfl)
theorem dX4_draws_18 : decode cX4_draws 18 = .ok (.aload_n 2, 1) := dk_44 (dk_at dksX4_draws_0 18 rfl rfl)
theorem dX4_draws_19 : decode cX4_draws 19 = .ok (.getfield 15, 3) := dk_180 0 15 (dk_at dksX4_draws_0 19 rfl rfl)
theorem dX4_draws_22 : decode cX4_draws 22 = .ok (.bipush 10, 2) := dk_16 10 (dk_at dksX4_draws_0 22 rfl rfl)
theorem dX4_draws_24 : decode cX4_draws 24 = .ok (.irem, 1) := dk_112 (dk_at dksX4_draws_1 0 rfl rfl)
theorem dX4_draws_25 : decode cX4_draws 25 = .ok (.goto 4, 3) := dk_167 0 4 (dk_at dksX4_draws_1 1 rfl rfl)
theorem dX4_draws_28 : decode cX4_draws 28 = .ok (.iconst 0, 1) := dk_3 (dk_at dksX4_draws_1 4 rfl rfl)
theorem dX4_draws_29 : decode cX4_draws 29 = .ok (.istore 4, 2) := dk_54 4 (dk_at dksX4_draws_1 5 rfl rfl)
theorem dX4_draws_31 : decode cX4_draws 31 = .ok (.aload_n 2, 1) := dk_44 (dk_at dksX4_draws_1 7 rfl rfl)
theorem dX4_draws_32 : decode cX4_draws 32 = .ok (.getfield 20, 3) := dk_180 0 20 (dk_at dksX4_draws_1 8 rfl rfl)
theorem dX4_draws_35 : decode cX4_draws 35 = .ok (.iload_n 3, 1) := dk_29 (dk_at dksX4_draws_1 11 rfl rfl)
theorem dX4_draws_36 : decode cX4_draws 36 = .ok (.if_icmp .ne 19, 3) := dk_160 0 19 (dk_at dksX4_draws_1 12 rfl rfl)
theorem dX4_draws_39 : decode cX4_draws 39 = .ok (.aload_n 0, 1) := dk_42 (dk_at dksX4_draws_1 15 rfl rfl)
theorem dX4_draws_40 : decode cX4_draws 40 = .ok (.invokevirtual 23, 3) := dk_182 0 23 (dk_at dksX4_draws_1 16 rfl rfl)
theorem dX4_draws_43 : decode cX4_draws 43 = .ok (.ifCond .eq 12, 3) := dk_153 0 12 (dk_at dksX4_draws_1 19 rfl rfl)
theorem dX4_draws_46 : decode cX4_draws 46 = .ok (.aload_n 1, 1) := dk_43 (dk_at dksX4_draws_1 22 rfl rfl)
theorem dX4_draws_47 : decode cX4_draws 47 = .ok (.getfield 27, 3) := dk_180 0 27 (dk_at dksX4_draws_2 0 rfl rfl)
theorem dX4_draws_50 : decode cX4_draws 50 = .ok (.iconst 1, 1) := dk_4 (dk_at dksX4_draws_2 3 rfl rfl)
theorem dX4_draws_51 : decode cX4_draws 51 = .ok (.iaload, 1) := dk_46 (dk_at dksX4_draws_2 4 rfl rfl)
theorem dX4_draws_52 : decode cX4_draws 52 = .ok (.goto 4, 3) := dk_167 0 4 (dk_at dksX4_draws_2 5 rfl rfl)
theorem dX4_draws_55 : decode cX4_draws 55 = .ok (.iconst 0, 1) := dk_3 (dk_at dksX4_draws_2 8 rfl rfl)
theorem dX4_draws_56 : decode cX4_draws 56 = .ok (.istore 5, 2) := dk_54 5 (dk_at dksX4_draws_2 9 rfl rfl)
theorem dX4_draws_58 : decode cX4_draws 58 = .ok (.iconst 1, 1) := dk_4 (dk_at dksX4_draws_2 11 rfl rfl)
theorem dX4_draws_59 : decode cX4_draws 59 = .ok (.iload 4, 2) := dk_21 4 (dk_at dksX4_draws_2 12 rfl rfl)
theorem dX4_draws_61 : decode cX4_draws 61 = .ok (.iadd, 1) := dk_96 (dk_at dksX4_draws_2 14 rfl rfl)
theorem dX4_draws_62 : decode cX4_draws 62 = .ok (.aload_n 2, 1) := dk_44 (dk_at dksX4_draws_2 15 rfl rfl)
theorem dX4_draws_63 : decode cX4_draws 63 = .ok (.getfield 33, 3) := dk_180 0 33 (dk_at dksX4_draws_2 16 rfl rfl)
theorem dX4_draws_66 : decode cX4_draws 66 = .ok (.iload_n 3, 1) := dk_29 (dk_at dksX4_draws_2 19 rfl rfl)
theorem dX4_draws_67 : decode cX4_draws 67 = .ok (.if_icmp .ne 12, 3) := dk_160 0 12 (dk_at dksX4_draws_2 20 rfl rfl)
theorem dX4_draws_70 : decode cX4_draws 70 = .ok (.aload_n 1, 1) := dk_43 (dk_at dksX4_draws_2 23 rfl rfl)
theorem dX4_draws_71 : decode cX4_draws 71 = .ok (.getfield 27, 3) := dk_180 0 27 (dk_at dksX4_draws_3 0 rfl rfl)
theorem dX4_draws_74 : decode cX4_draws 74 = .ok (.iconst 0, 1) := dk_3 (dk_at dksX4_draws_3 3 rfl rfl)
theorem dX4_draws_75 : decode cX4_draws 75 = .ok (.iaload, 1) := dk_46 (dk_at dksX4_draws_3 4 rfl rfl)
theorem dX4_draws_76 : decode cX4_draws 76 = .ok (.goto 4, 3) := dk_167 0 4 (dk_at dksX4_draws_3 5 rfl rfl)
theorem dX4_draws_79 : decode cX4_draws 79 = .ok (.iconst 0, 1) := dk_3 (dk_at dksX4_draws_3 8 rfl rfl)
theorem dX4_draws_80 : decode cX4_draws 80 = .ok (.iadd, 1) := dk_96 (dk_at dksX4_draws_3 9 rfl rfl)
theorem dX4_draws_81 : decode cX4_draws 81 = .ok (.iload 5, 2) := dk_21 5 (dk_at dksX4_draws_3 10 rfl rfl)
theorem dX4_draws_83 : decode cX4_draws 83 = .ok (.iadd, 1) := dk_96 (dk_at dksX4_draws_3 12 rfl rfl)
theorem dX4_draws_84 : decode cX4_draws 84 = .ok (.ireturn, 1) := dk_172 (dk_at dksX4_draws_3 13 rfl rfl)
abbrev cX4_warned : ByteArray := prog_9_method_8_code
def yX4_warned : MethodName := ⟨RX4, "warned", "()LCoinNotThere$Watcher;"⟩
def dkwX4_warned_0 : List UInt8 := [187, 0, 63, 89, 42, 180, 0, 9, 183, 0, 65, 176]
abbrev dktX4_warned_0 : List UInt8 := dkwX4_warned_0 ++ []
theorem dksX4_warned_0 : cX4_warned.data.toList.drop 0 = dktX4_warned_0 := by decide +kernel
theorem dX4_warned_0 : decode cX4_warned 0 = .ok (.new 63, 3) := dk_187 0 63 (dk_at dksX4_warned_0 0 rfl rfl)
theorem dX4_warned_3 : decode cX4_warned 3 = .ok (.dup, 1) := dk_89 (dk_at dksX4_warned_0 3 rfl rfl)
theorem dX4_warned_4 : decode cX4_warned 4 = .ok (.aload_n 0, 1) := dk_42 (dk_at dksX4_warned_0 4 rfl rfl)
theorem dX4_warned_5 : decode cX4_warned 5 = .ok (.getfield 9, 3) := dk_180 0 9 (dk_at dksX4_warned_0 5 rfl rfl)
theorem dX4_warned_8 : decode cX4_warned 8 = .ok (.invokespecial 65, 3) := dk_183 0 65 (dk_at dksX4_warned_0 8 rfl rfl)
theorem dX4_warned_11 : decode cX4_warned 11 = .ok (.areturn, 1) := dk_176 (dk_at dksX4_warned_0 11 rfl rfl)
abbrev cX4_same : ByteArray := prog_9_method_7_code
def yX4_same : MethodName := ⟨RX4, "same", "()LCoinNotThere$Watcher;"⟩
def dkwX4_same_0 : List UInt8 := [187, 0, 10, 89, 42, 180, 0, 9, 183, 0, 60, 176]
abbrev dktX4_same_0 : List UInt8 := dkwX4_same_0 ++ []
theorem dksX4_same_0 : cX4_same.data.toList.drop 0 = dktX4_same_0 := by decide +kernel
theorem dX4_same_0 : decode cX4_same 0 = .ok (.new 10, 3) := dk_187 0 10 (dk_at dksX4_same_0 0 rfl rfl)
theorem dX4_same_3 : decode cX4_same 3 = .ok (.dup, 1) := dk_89 (dk_at dksX4_same_0 3 rfl rfl)
theorem dX4_same_4 : decode cX4_same 4 = .ok (.aload_n 0, 1) := dk_42 (dk_at dksX4_same_0 4 rfl rfl)
theorem dX4_same_5 : decode cX4_same 5 = .ok (.getfield 9, 3) := dk_180 0 9 (dk_at dksX4_same_0 5 rfl rfl)
theorem dX4_same_8 : decode cX4_same 8 = .ok (.invokespecial 60, 3) := dk_183 0 60 (dk_at dksX4_same_0 8 rfl rfl)
theorem dX4_same_11 : decode cX4_same 11 = .ok (.areturn, 1) := dk_176 (dk_at dksX4_same_0 11 rfl rfl)
theorem q58 : (Jvm.Cond.initialized "CoinNotThere$Watcher") ∈ lw_all := lw_g (lw_at lw_m1 10 rfl) rfl
theorem q100 : (Jvm.Cond.fieldLinkNest "CoinNotThere$Watcher" (15 : Nat) "CoinNotThere$Beat" "move" "I" "CoinNotThere") ∈ lw_tbl := lw_at lw_m1 52 rfl
theorem q103 : (Jvm.Cond.fieldLinkNest "CoinNotThere$Watcher" (40 : Nat) "CoinNotThere$Beat" "slip" "I" "CoinNotThere") ∈ lw_tbl := lw_at lw_m1 55 rfl
theorem q107 : (Jvm.Cond.fieldLinkNest "CoinNotThere$Watcher" (33 : Nat) "CoinNotThere$Beat" "looks" "I" "CoinNotThere") ∈ lw_tbl := lw_at lw_m1 59 rfl
theorem q110 : (Jvm.Cond.fieldLinkNest "CoinNotThere$Watcher" (20 : Nat) "CoinNotThere$Beat" "names" "I" "CoinNotThere") ∈ lw_tbl := lw_at lw_m1 62 rfl
theorem q113 : (Jvm.Cond.fieldLinkNest "CoinNotThere$Watcher" (56 : Nat) "CoinNotThere$Beat" "joke" "Z" "CoinNotThere") ∈ lw_tbl := lw_at lw_m1 65 rfl
theorem q128 : (Jvm.Cond.fieldLinkNest "CoinNotThere$Watcher" (36 : Nat) "CoinNotThere$Routine" "beats" "[LCoinNotThere$Beat;" "CoinNotThere") ∈ lw_tbl := lw_at lw_m1 80 rfl
theorem q133 : (Jvm.Cond.fieldLinkNest "CoinNotThere$Watcher" (27 : Nat) "CoinNotThere$Routine" "laws" "[I" "CoinNotThere") ∈ lw_tbl := lw_at lw_m1 85 rfl
theorem q249 : (Jvm.Cond.instantiable "CoinNotThere$Watcher" (1 : Nat)) ∈ lw_all := lw_g (lw_at lw_m1 201 rfl) rfl
theorem q251 : (Jvm.Cond.instanceMethod ({ cls := "CoinNotThere$Watcher", name := "<init>", desc := "(I)V" } : Jvm.MethodName)) ∈ lw_all := lw_g (lw_at lw_m1 203 rfl) rfl
theorem q252 : (Jvm.Cond.code ({ cls := "CoinNotThere$Watcher", name := "<init>", desc := "(I)V" } : Jvm.MethodName) prog_9_method_1_code (2 : Nat) (Option.none : Option Jvm.ClassFile.FieldType)) ∈ lw_all := lw_g (lw_at lw_m1 204 rfl) rfl
theorem q253 : (Jvm.Cond.methodLink "CoinNotThere$Watcher" (3 : Nat) ({ cls := "java/lang/Object", name := "<init>", desc := "()V" } : Jvm.MethodName)) ∈ lw_all := lw_g (lw_at lw_m1 205 rfl) rfl
theorem q254 : (Jvm.Cond.fieldLink "CoinNotThere$Watcher" (9 : Nat) "CoinNotThere$Watcher" "seat" "I") ∈ lw_all := lw_g (lw_at lw_m1 206 rfl) rfl
theorem q262 : (Jvm.Cond.laysFinal "CoinNotThere$Watcher" "CoinNotThere$Watcher" "seat" "I") ∈ lw_all := lw_g (lw_at lw_m1 214 rfl) rfl
theorem q263 : (Jvm.Cond.soleField "CoinNotThere$Watcher" "seat") ∈ lw_all := lw_g (lw_at lw_m1 215 rfl) rfl
theorem q264 : (Jvm.Cond.superclass "CoinNotThere$Watcher" "java/lang/Object") ∈ lw_all := lw_g (lw_at lw_m1 216 rfl) rfl
theorem q486 : (Jvm.Cond.selects "CoinNotThere$Watcher" ({ cls := "java/lang/Object", name := "getClass", desc := "()Ljava/lang/Class;" } : Jvm.MethodName) ({ cls := "java/lang/Object", name := "getClass", desc := "()Ljava/lang/Class;" } : Jvm.MethodName)) ∈ lw_all := lw_g (lw_at lw_m2 198 rfl) rfl
theorem q551 : (Jvm.Cond.instanceMethod ({ cls := "CoinNotThere$Watcher", name := "kind", desc := "()I" } : Jvm.MethodName)) ∈ lw_all := lw_g (lw_at lw_m3 23 rfl) rfl
theorem q552 : (Jvm.Cond.selects "CoinNotThere$Watcher" ({ cls := "CoinNotThere$Watcher", name := "kind", desc := "()I" } : Jvm.MethodName) ({ cls := "CoinNotThere$Watcher", name := "kind", desc := "()I" } : Jvm.MethodName)) ∈ lw_all := lw_g (lw_at lw_m3 24 rfl) rfl
theorem q553 : (Jvm.Cond.sameMethod "CoinNotThere$Watcher" "CoinNotThere$Watcher" "kind" "()I") ∈ lw_all := lw_g (lw_at lw_m3 25 rfl) rfl
theorem q563 : (Jvm.Cond.code ({ cls := "CoinNotThere$Watcher", name := "kind", desc := "()I" } : Jvm.MethodName) prog_9_method_2_code (1 : Nat) (Option.some Jvm.ClassFile.FieldType.int)) ∈ lw_all := lw_g (lw_at lw_m3 35 rfl) rfl
theorem q565 : (Jvm.Cond.instanceMethod ({ cls := "CoinNotThere$Watcher", name := "heed", desc := "(LCoinNotThere$Routine;I)I" } : Jvm.MethodName)) ∈ lw_all := lw_g (lw_at lw_m3 37 rfl) rfl
theorem q566 : (Jvm.Cond.selects "CoinNotThere$Watcher" ({ cls := "CoinNotThere$Watcher", name := "heed", desc := "(LCoinNotThere$Routine;I)I" } : Jvm.MethodName) ({ cls := "CoinNotThere$Watcher", name := "heed", desc := "(LCoinNotThere$Routine;I)I" } : Jvm.MethodName)) ∈ lw_all := lw_g (lw_at lw_m3 38 rfl) rfl
theorem q567 : (Jvm.Cond.sameMethod "CoinNotThere$Watcher" "CoinNotThere$Watcher" "heed" "(LCoinNotThere$Routine;I)I") ∈ lw_all := lw_g (lw_at lw_m3 39 rfl) rfl
theorem q571 : (Jvm.Cond.code ({ cls := "CoinNotThere$Watcher", name := "heed", desc := "(LCoinNotThere$Routine;I)I" } : Jvm.MethodName) prog_9_method_6_code (5 : Nat) (Option.some Jvm.ClassFile.FieldType.int)) ∈ lw_all := lw_g (lw_at lw_m3 43 rfl) rfl
theorem q572 : (Jvm.Cond.methodLink "CoinNotThere$Watcher" (47 : Nat) ({ cls := "java/lang/Math", name := "min", desc := "(II)I" } : Jvm.MethodName)) ∈ lw_all := lw_g (lw_at lw_m3 44 rfl) rfl
theorem q573 : (Jvm.Cond.methodLink "CoinNotThere$Watcher" (23 : Nat) ({ cls := "CoinNotThere$Watcher", name := "listens", desc := "()Z" } : Jvm.MethodName)) ∈ lw_all := lw_g (lw_at lw_m3 45 rfl) rfl
theorem q574 : (Jvm.Cond.instanceMethod ({ cls := "CoinNotThere$Watcher", name := "listens", desc := "()Z" } : Jvm.MethodName)) ∈ lw_all := lw_g (lw_at lw_m3 46 rfl) rfl
theorem q575 : (Jvm.Cond.selects "CoinNotThere$Watcher" ({ cls := "CoinNotThere$Watcher", name := "listens", desc := "()Z" } : Jvm.MethodName) ({ cls := "CoinNotThere$Watcher", name := "listens", desc := "()Z" } : Jvm.MethodName)) ∈ lw_all := lw_g (lw_at lw_m3 47 rfl) rfl
theorem q576 : (Jvm.Cond.sameMethod "CoinNotThere$Watcher" "CoinNotThere$Watcher" "listens" "()Z") ∈ lw_all := lw_g (lw_at lw_m3 48 rfl) rfl
theorem q582 : (Jvm.Cond.code ({ cls := "CoinNotThere$Watcher", name := "listens", desc := "()Z" } : Jvm.MethodName) prog_9_method_3_code (1 : Nat) (Option.some Jvm.ClassFile.FieldType.boolean)) ∈ lw_all := lw_g (lw_at lw_m3 54 rfl) rfl
theorem q583 : (Jvm.Cond.methodLink "CoinNotThere$Watcher" (53 : Nat) ({ cls := "java/lang/Math", name := "max", desc := "(II)I" } : Jvm.MethodName)) ∈ lw_all := lw_g (lw_at lw_m3 55 rfl) rfl
theorem q709 : (Jvm.Cond.instanceMethod ({ cls := "CoinNotThere$Watcher", name := "pull", desc := "(LCoinNotThere$Routine;III)I" } : Jvm.MethodName)) ∈ lw_all := lw_g (lw_at lw_m3 181 rfl) rfl
theorem q710 : (Jvm.Cond.selects "CoinNotThere$Watcher" ({ cls := "CoinNotThere$Watcher", name := "pull", desc := "(LCoinNotThere$Routine;III)I" } : Jvm.MethodName) ({ cls := "CoinNotThere$Watcher", name := "pull", desc := "(LCoinNotThere$Routine;III)I" } : Jvm.MethodName)) ∈ lw_all := lw_g (lw_at lw_m3 182 rfl) rfl
theorem q711 : (Jvm.Cond.sameMethod "CoinNotThere$Watcher" "CoinNotThere$Watcher" "pull" "(LCoinNotThere$Routine;III)I") ∈ lw_all := lw_g (lw_at lw_m3 183 rfl) rfl
theorem q715 : (Jvm.Cond.code ({ cls := "CoinNotThere$Watcher", name := "pull", desc := "(LCoinNotThere$Routine;III)I" } : Jvm.MethodName) prog_9_method_5_code (7 : Nat) (Option.some Jvm.ClassFile.FieldType.int)) ∈ lw_all := lw_g (lw_at lw_m3 187 rfl) rfl
theorem q716 : (Jvm.Cond.methodLink "CoinNotThere$Watcher" (43 : Nat) ({ cls := "CoinNotThere$Watcher", name := "draws", desc := "(LCoinNotThere$Routine;LCoinNotThere$Beat;I)I" } : Jvm.MethodName)) ∈ lw_all := lw_g (lw_at lw_m3 188 rfl) rfl
theorem q717 : (Jvm.Cond.instanceMethod ({ cls := "CoinNotThere$Watcher", name := "draws", desc := "(LCoinNotThere$Routine;LCoinNotThere$Beat;I)I" } : Jvm.MethodName)) ∈ lw_all := lw_g (lw_at lw_m3 189 rfl) rfl
theorem q718 : (Jvm.Cond.selects "CoinNotThere$Watcher" ({ cls := "CoinNotThere$Watcher", name := "draws", desc := "(LCoinNotThere$Routine;LCoinNotThere$Beat;I)I" } : Jvm.MethodName) ({ cls := "CoinNotThere$Watcher", name := "draws", desc := "(LCoinNotThere$Routine;LCoinNotThere$Beat;I)I" } : Jvm.MethodName)) ∈ lw_all := lw_g (lw_at lw_m3 190 rfl) rfl
theorem q719 : (Jvm.Cond.sameMethod "CoinNotThere$Watcher" "CoinNotThere$Watcher" "draws" "(LCoinNotThere$Routine;LCoinNotThere$Beat;I)I") ∈ lw_all := lw_g (lw_at lw_m3 191 rfl) rfl
theorem q725 : (Jvm.Cond.code ({ cls := "CoinNotThere$Watcher", name := "draws", desc := "(LCoinNotThere$Routine;LCoinNotThere$Beat;I)I" } : Jvm.MethodName) prog_9_method_4_code (6 : Nat) (Option.some Jvm.ClassFile.FieldType.int)) ∈ lw_all := lw_g (lw_at lw_m3 197 rfl) rfl
theorem q813 : (Jvm.Cond.instanceMethod ({ cls := "CoinNotThere$Watcher", name := "warned", desc := "()LCoinNotThere$Watcher;" } : Jvm.MethodName)) ∈ lw_all := lw_g (lw_at lw_m4 45 rfl) rfl
theorem q814 : (Jvm.Cond.selects "CoinNotThere$Watcher" ({ cls := "CoinNotThere$Watcher", name := "warned", desc := "()LCoinNotThere$Watcher;" } : Jvm.MethodName) ({ cls := "CoinNotThere$Watcher", name := "warned", desc := "()LCoinNotThere$Watcher;" } : Jvm.MethodName)) ∈ lw_all := lw_g (lw_at lw_m4 46 rfl) rfl
theorem q815 : (Jvm.Cond.sameMethod "CoinNotThere$Watcher" "CoinNotThere$Watcher" "warned" "()LCoinNotThere$Watcher;") ∈ lw_all := lw_g (lw_at lw_m4 47 rfl) rfl
theorem q825 : (Jvm.Cond.code ({ cls := "CoinNotThere$Watcher", name := "warned", desc := "()LCoinNotThere$Watcher;" } : Jvm.MethodName) prog_9_method_8_code (1 : Nat) (Option.some (Jvm.ClassFile.FieldType.object "CoinNotThere$Watcher"))) ∈ lw_all := lw_g (lw_at lw_m4 57 rfl) rfl
theorem q826 : (Jvm.Cond.classLink "CoinNotThere$Watcher" (63 : Nat) "CoinNotThere$Warned") ∈ lw_all := lw_g (lw_at lw_m4 58 rfl) rfl
theorem q827 : (Jvm.Cond.methodLink "CoinNotThere$Watcher" (65 : Nat) ({ cls := "CoinNotThere$Warned", name := "<init>", desc := "(I)V" } : Jvm.MethodName)) ∈ lw_all := lw_g (lw_at lw_m4 59 rfl) rfl
theorem q867 : (Jvm.Cond.instanceMethod ({ cls := "CoinNotThere$Watcher", name := "same", desc := "()LCoinNotThere$Watcher;" } : Jvm.MethodName)) ∈ lw_all := lw_g (lw_at lw_m4 99 rfl) rfl
theorem q868 : (Jvm.Cond.selects "CoinNotThere$Watcher" ({ cls := "CoinNotThere$Watcher", name := "same", desc := "()LCoinNotThere$Watcher;" } : Jvm.MethodName) ({ cls := "CoinNotThere$Watcher", name := "same", desc := "()LCoinNotThere$Watcher;" } : Jvm.MethodName)) ∈ lw_all := lw_g (lw_at lw_m4 100 rfl) rfl
theorem q869 : (Jvm.Cond.sameMethod "CoinNotThere$Watcher" "CoinNotThere$Watcher" "same" "()LCoinNotThere$Watcher;") ∈ lw_all := lw_g (lw_at lw_m4 101 rfl) rfl
theorem q885 : (Jvm.Cond.code ({ cls := "CoinNotThere$Watcher", name := "same", desc := "()LCoinNotThere$Watcher;" } : Jvm.MethodName) prog_9_method_7_code (1 : Nat) (Option.some (Jvm.ClassFile.FieldType.object "CoinNotThere$Watcher"))) ∈ lw_all := lw_g (lw_at lw_m4 117 rfl) rfl
theorem q886 : (Jvm.Cond.classLink "CoinNotThere$Watcher" (10 : Nat) "CoinNotThere$Watcher") ∈ lw_all := lw_g (lw_at lw_m4 118 rfl) rfl
theorem q887 : (Jvm.Cond.methodLink "CoinNotThere$Watcher" (60 : Nat) ({ cls := "CoinNotThere$Watcher", name := "<init>", desc := "(I)V" } : Jvm.MethodName)) ∈ lw_all := lw_g (lw_at lw_m4 119 rfl) rfl
theorem q1390 : (Jvm.Cond.castable "CoinNotThere$Watcher" "java/lang/Object") ∈ lw_tbl := lw_at lw_m6 142 rfl
theorem in_X4 : ∀ w ∈ wsX40, w ∈ lw_all := lw_in wsX40 [262] (by decide +kernel) (by decide +kernel)
/-! CoinNotThere$Sheet -/
set_option maxRecDepth 100000
def RX5 : String := "CoinNotThere$Sheet"
def TX5 : u_T := fun k => match k with
  | _ => ("CoinNotThere$Sheet", "row", "Ljava/lang/Object;", false)
def tyX5 : Nat → FieldType := fun k => match k with
  | _ => .object "java/lang/Object"
abbrev wsX50 : List Cond := u_ws RX5 TX5 1
theorem nmX5 : ∀ a, a < 1 → ∀ b, b < 1 → a ≠ b → (TX5 a).2.1 ≠ (TX5 b).2.1 := by decide +kernel
theorem tyX5_ok : ∀ k, k < 1 → parseFieldDescriptor (TX5 k).2.2.1 = some (tyX5 k) := by decide +kernel
abbrev cX5_init : ByteArray := prog_7_method_1_code
def yX5_init : MethodName := ⟨RX5, "<init>", "()V"⟩
theorem dX5_init_0 : decode cX5_init 0 = .ok (.aload_n 0, 1) := by decide +kernel
theorem dX5_init_1 : decode cX5_init 1 = .ok (.invokespecial 1, 3) := by decide +kernel
theorem dX5_init_4 : decode cX5_init 4 = .ok (.return_, 1) := by decide +kernel
abbrev cX5_lane : ByteArray := prog_7_method_2_code
def yX5_lane : MethodName := ⟨RX5, "lane", "()I"⟩
def dkwX5_lane_1 : List UInt8 := [4, 167, 0, 4, 5, 172]
abbrev dktX5_lane_1 : List UInt8 := dkwX5_lane_1 ++ []
def dkwX5_lane_0 : List UInt8 := [42, 180, 0, 7, 193, 0, 13, 153, 0, 7, 3, 167, 0, 18, 42, 180, 0, 7, 193, 0, 15, 153, 0, 7]
abbrev dktX5_lane_0 : List UInt8 := dkwX5_lane_0 ++ dktX5_lane_1
theorem dksX5_lane_0 : cX5_lane.data.toList.drop 0 = dktX5_lane_0 := by decide +kernel
theorem dksX5_lane_1 : cX5_lane.data.toList.drop 24 = dktX5_lane_1 := dk_seg dksX5_lane_0 24 rfl rfl
theorem dX5_lane_0 : decode cX5_lane 0 = .ok (.aload_n 0, 1) := dk_42 (dk_at dksX5_lane_0 0 rfl rfl)
theorem dX5_lane_1 : decode cX5_lane 1 = .ok (.getfield 7, 3) := dk_180 0 7 (dk_at dksX5_lane_0 1 rfl rfl)
theorem dX5_lane_4 : decode cX5_lane 4 = .ok (.instanceof 13, 3) := dk_193 0 13 (dk_at dksX5_lane_0 4 rfl rfl)
theorem dX5_lane_7 : decode cX5_lane 7 = .ok (.ifCond .eq 7, 3) := dk_153 0 7 (dk_at dksX5_lane_0 7 rfl rfl)
theorem dX5_lane_10 : decode cX5_lane 10 = .ok (.iconst 0, 1) := dk_3 (dk_at dksX5_lane_0 10 rfl rfl)
theorem dX5_lane_11 : decode cX5_lane 11 = .ok (.goto 18, 3) := dk_167 0 18 (dk_at dksX5_lane_0 11 rfl rfl)
theorem dX5_lane_14 : decode cX5_lane 14 = .ok (.aload_n 0, 1) := dk_42 (dk_at dksX5_lane_0 14 rfl rfl)
theorem dX5_lane_15 : decode cX5_lane 15 = .ok (.getfield 7, 3) := dk_180 0 7 (dk_at dksX5_lane_0 15 rfl rfl)
theorem dX5_lane_18 : decode cX5_lane 18 = .ok (.instanceof 15, 3) := dk_193 0 15 (dk_at dksX5_lane_0 18 rfl rfl)
theorem dX5_lane_21 : decode cX5_lane 21 = .ok (.ifCond .eq 7, 3) := dk_153 0 7 (dk_at dksX5_lane_0 21 rfl rfl)
theorem dX5_lane_24 : decode cX5_lane 24 = .ok (.iconst 1, 1) := dk_4 (dk_at dksX5_lane_1 0 rfl rfl)
theorem dX5_lane_25 : decode cX5_lane 25 = .ok (.goto 4, 3) := dk_167 0 4 (dk_at dksX5_lane_1 1 rfl rfl)
theorem dX5_lane_28 : decode cX5_lane 28 = .ok (.iconst 2, 1) := dk_5 (dk_at dksX5_lane_1 4 rfl rfl)
theorem dX5_lane_29 : decode cX5_lane 29 = .ok (.ireturn, 1) := dk_172 (dk_at dksX5_lane_1 5 rfl rfl)
abbrev cX5_size : ByteArray := prog_7_method_3_code
def yX5_size : MethodName := ⟨RX5, "size", "()I"⟩
def dkwX5_size_2 : List UInt8 := [192, 0, 17, 190, 172]
abbrev dktX5_size_2 : List UInt8 := dkwX5_size_2 ++ []
def dkwX5_size_1 : List UInt8 := [77, 44, 193, 0, 15, 153, 0, 13, 44, 192, 0, 15, 76, 43, 190, 167, 0, 11, 42, 180, 0, 7]
abbrev dktX5_size_1 : List UInt8 := dkwX5_size_1 ++ dktX5_size_2
def dkwX5_size_0 : List UInt8 := [42, 180, 0, 7, 77, 44, 193, 0, 13, 153, 0, 11, 44, 192, 0, 13, 76, 43, 190, 172, 42, 180, 0, 7]
abbrev dktX5_size_0 : List UInt8 := dkwX5_size_0 ++ dktX5_size_1
theorem dksX5_size_0 : cX5_size.data.toList.drop 0 = dktX5_size_0 := by decide +kernel
theorem dksX5_size_1 : cX5_size.data.toList.drop 24 = dktX5_size_1 := dk_seg dksX5_size_0 24 rfl rfl
theorem dksX5_size_2 : cX5_size.data.toList.drop 46 = dktX5_size_2 := dk_seg dksX5_size_1 22 rfl rfl
theorem dX5_size_0 : decode cX5_size 0 = .ok (.aload_n 0, 1) := dk_42 (dk_at dksX5_size_0 0 rfl rfl)
theorem dX5_size_1 : decode cX5_size 1 = .ok (.getfield 7, 3) := dk_180 0 7 (dk_at dksX5_size_0 1 rfl rfl)
theorem dX5_size_4 : decode cX5_size 4 = .ok (.astore_n 2, 1) := dk_77 (dk_at dksX5_size_0 4 rfl rfl)
theorem dX5_size_5 : decode cX5_size 5 = .ok (.aload_n 2, 1) := dk_44 (dk_at dksX5_size_0 5 rfl rfl)
theorem dX5_size_6 : decode cX5_size 6 = .ok (.instanceof 13, 3) := dk_193 0 13 (dk_at dksX5_size_0 6 rfl rfl)
theorem dX5_size_9 : decode cX5_size 9 = .ok (.ifCond .eq 11, 3) := dk_153 0 11 (dk_at dksX5_size_0 9 rfl rfl)
theorem dX5_size_12 : decode cX5_size 12 = .ok (.aload_n 2, 1) := dk_44 (dk_at dksX5_size_0 12 rfl rfl)
theorem dX5_size_13 : decode cX5_size 13 = .ok (.checkcast 13, 3) := dk_192 0 13 (dk_at dksX5_size_0 13 rfl rfl)
theorem dX5_size_16 : decode cX5_size 16 = .ok (.astore_n 1, 1) := dk_76 (dk_at dksX5_size_0 16 rfl rfl)
theorem dX5_size_17 : decode cX5_size 17 = .ok (.aload_n 1, 1) := dk_43 (dk_at dksX5_size_0 17 rfl rfl)
theorem dX5_size_18 : decode cX5_size 18 = .ok (.arraylength, 1) := dk_190 (dk_at dksX5_size_0 18 rfl rfl)
theorem dX5_size_19 : decode cX5_size 19 = .ok (.ireturn, 1) := dk_172 (dk_at dksX5_size_0 19 rfl rfl)
theorem dX5_size_20 : decode cX5_size 20 = .ok (.aload_n 0, 1) := dk_42 (dk_at dksX5_size_0 20 rfl rfl)
theorem dX5_size_21 : decode cX5_size 21 = .ok (.getfield 7, 3) := dk_180 0 7 (dk_at dksX5_size_0 21 rfl rfl)
theorem dX5_size_24 : decode cX5_size 24 = .ok (.astore_n 2, 1) := dk_77 (dk_at dksX5_size_1 0 rfl rfl)
theorem dX5_size_25 : decode cX5_size 25 = .ok (.aload_n 2, 1) := dk_44 (dk_at dksX5_size_1 1 rfl rfl)
theorem dX5_size_26 : decode cX5_size 26 = .ok (.instanceof 15, 3) := dk_193 0 15 (dk_at dksX5_size_1 2 rfl rfl)
theorem dX5_size_29 : decode cX5_size 29 = .ok (.ifCond .eq 13, 3) := dk_153 0 13 (dk_at dksX5_size_1 5 rfl rfl)
theorem dX5_size_32 : decode cX5_size 32 = .ok (.aload_n 2, 1) := dk_44 (dk_at dksX5_size_1 8 rfl rfl)
theorem dX5_size_33 : decode cX5_size 33 = .ok (.checkcast 15, 3) := dk_192 0 15 (dk_at dksX5_size_1 9 rfl rfl)
theorem dX5_size_36 : decode cX5_size 36 = .ok (.astore_n 1, 1) := dk_76 (dk_at dksX5_size_1 12 rfl rfl)
theorem dX5_size_37 : decode cX5_size 37 = .ok (.aload_n 1, 1) := dk_43 (dk_at dksX5_size_1 13 rfl rfl)
theorem dX5_size_38 : decode cX5_size 38 = .ok (.arraylength, 1) := dk_190 (dk_at dksX5_size_1 14 rfl rfl)
theorem dX5_size_39 : decode cX5_size 39 = .ok (.goto 11, 3) := dk_167 0 11 (dk_at dksX5_size_1 15 rfl rfl)
theorem dX5_size_42 : decode cX5_size 42 = .ok (.aload_n 0, 1) := dk_42 (dk_at dksX5_size_1 18 rfl rfl)
theorem dX5_size_43 : decode cX5_size 43 = .ok (.getfield 7, 3) := dk_180 0 7 (dk_at dksX5_size_1 19 rfl rfl)
theorem dX5_size_46 : decode cX5_size 46 = .ok (.checkcast 17, 3) := dk_192 0 17 (dk_at dksX5_size_2 0 rfl rfl)
theorem dX5_size_49 : decode cX5_size 49 = .ok (.arraylength, 1) := dk_190 (dk_at dksX5_size_2 3 rfl rfl)
theorem dX5_size_50 : decode cX5_size 50 = .ok (.ireturn, 1) := dk_172 (dk_at dksX5_size_2 4 rfl rfl)
abbrev cX5_get : ByteArray := prog_7_method_4_code
def yX5_get : MethodName := ⟨RX5, "get", "(I)I"⟩
def dkwX5_get_2 : List UInt8 := [180, 0, 7, 192, 0, 17, 27, 46, 172]
abbrev dktX5_get_2 : List UInt8 := dkwX5_get_2 ++ []
def dkwX5_get_1 : List UInt8 := [180, 0, 7, 78, 45, 193, 0, 15, 153, 0, 14, 45, 192, 0, 15, 77, 44, 27, 53, 167, 0, 12, 42]
abbrev dktX5_get_1 : List UInt8 := dkwX5_get_1 ++ dktX5_get_2
def dkwX5_get_0 : List UInt8 := [42, 180, 0, 7, 78, 45, 193, 0, 13, 153, 0, 12, 45, 192, 0, 13, 77, 44, 27, 51, 172, 42]
abbrev dktX5_get_0 : List UInt8 := dkwX5_get_0 ++ dktX5_get_1
theorem dksX5_get_0 : cX5_get.data.toList.drop 0 = dktX5_get_0 := by decide +kernel
theorem dksX5_get_1 : cX5_get.data.toList.drop 22 = dktX5_get_1 := dk_seg dksX5_get_0 22 rfl rfl
theorem dksX5_get_2 : cX5_get.data.toList.drop 45 = dktX5_get_2 := dk_seg dksX5_get_1 23 rfl rfl
theorem dX5_get_0 : decode cX5_get 0 = .ok (.aload_n 0, 1) := dk_42 (dk_at dksX5_get_0 0 rfl rfl)
theorem dX5_get_1 : decode cX5_get 1 = .ok (.getfield 7, 3) := dk_180 0 7 (dk_at dksX5_get_0 1 rfl rfl)
theorem dX5_get_4 : decode cX5_get 4 = .ok (.astore_n 3, 1) := dk_78 (dk_at dksX5_get_0 4 rfl rfl)
theorem dX5_get_5 : decode cX5_get 5 = .ok (.aload_n 3, 1) := dk_45 (dk_at dksX5_get_0 5 rfl rfl)
theorem dX5_get_6 : decode cX5_get 6 = .ok (.instanceof 13, 3) := dk_193 0 13 (dk_at dksX5_get_0 6 rfl rfl)
theorem dX5_get_9 : decode cX5_get 9 = .ok (.ifCond .eq 12, 3) := dk_153 0 12 (dk_at dksX5_get_0 9 rfl rfl)
theorem dX5_get_12 : decode cX5_get 12 = .ok (.aload_n 3, 1) := dk_45 (dk_at dksX5_get_0 12 rfl rfl)
theorem dX5_get_13 : decode cX5_get 13 = .ok (.checkcast 13, 3) := dk_192 0 13 (dk_at dksX5_get_0 13 rfl rfl)
theorem dX5_get_16 : decode cX5_get 16 = .ok (.astore_n 2, 1) := dk_77 (dk_at dksX5_get_0 16 rfl rfl)
theorem dX5_get_17 : decode cX5_get 17 = .ok (.aload_n 2, 1) := dk_44 (dk_at dksX5_get_0 17 rfl rfl)
theorem dX5_get_18 : decode cX5_get 18 = .ok (.iload_n 1, 1) := dk_27 (dk_at dksX5_get_0 18 rfl rfl)
theorem dX5_get_19 : decode cX5_get 19 = .ok (.baload, 1) := dk_51 (dk_at dksX5_get_0 19 rfl rfl)
theorem dX5_get_20 : decode cX5_get 20 = .ok (.ireturn, 1) := dk_172 (dk_at dksX5_get_0 20 rfl rfl)
theorem dX5_get_21 : decode cX5_get 21 = .ok (.aload_n 0, 1) := dk_42 (dk_at dksX5_get_0 21 rfl rfl)
theorem dX5_get_22 : decode cX5_get 22 = .ok (.getfield 7, 3) := dk_180 0 7 (dk_at dksX5_get_1 0 rfl rfl)
theorem dX5_get_25 : decode cX5_get 25 = .ok (.astore_n 3, 1) := dk_78 (dk_at dksX5_get_1 3 rfl rfl)
theorem dX5_get_26 : decode cX5_get 26 = .ok (.aload_n 3, 1) := dk_45 (dk_at dksX5_get_1 4 rfl rfl)
theorem dX5_get_27 : decode cX5_get 27 = .ok (.instanceof 15, 3) := dk_193 0 15 (dk_at dksX5_get_1 5 rfl rfl)
theorem dX5_get_30 : decode cX5_get 30 = .ok (.ifCond .eq 14, 3) := dk_153 0 14 (dk_at dksX5_get_1 8 rfl rfl)
theorem dX5_get_33 : decode cX5_get 33 = .ok (.aload_n 3, 1) := dk_45 (dk_at dksX5_get_1 11 rfl rfl)
theorem dX5_get_34 : decode cX5_get 34 = .ok (.checkcast 15, 3) := dk_192 0 15 (dk_at dksX5_get_1 12 rfl rfl)
theorem dX5_get_37 : decode cX5_get 37 = .ok (.astore_n 2, 1) := dk_77 (dk_at dksX5_get_1 15 rfl rfl)
theorem dX5_get_38 : decode cX5_get 38 = .ok (.aload_n 2, 1) := dk_44 (dk_at dksX5_get_1 16 rfl rfl)
theorem dX5_get_39 : decode cX5_get 39 = .ok (.iload_n 1, 1) := dk_27 (dk_at dksX5_get_1 17 rfl rfl)
theorem dX5_get_40 : decode cX5_get 40 = .ok (.saload, 1) := dk_53 (dk_at dksX5_get_1 18 rfl rfl)
theorem dX5_get_41 : decode cX5_get 41 = .ok (.goto 12, 3) := dk_167 0 12 (dk_at dksX5_get_1 19 rfl rfl)
theorem dX5_get_44 : decode cX5_get 44 = .ok (.aload_n 0, 1) := dk_42 (dk_at dksX5_get_1 22 rfl rfl)
theorem dX5_get_45 : decode cX5_get 45 = .ok (.getfield 7, 3) := dk_180 0 7 (dk_at dksX5_get_2 0 rfl rfl)
theorem dX5_get_48 : decode cX5_get 48 = .ok (.checkcast 17, 3) := dk_192 0 17 (dk_at dksX5_get_2 3 rfl rfl)
theorem dX5_get_51 : decode cX5_get 51 = .ok (.iload_n 1, 1) := dk_27 (dk_at dksX5_get_2 6 rfl rfl)
theorem dX5_get_52 : decode cX5_get 52 = .ok (.iaload, 1) := dk_46 (dk_at dksX5_get_2 7 rfl rfl)
theorem dX5_get_53 : decode cX5_get 53 = .ok (.ireturn, 1) := dk_172 (dk_at dksX5_get_2 8 rfl rfl)
theorem q59 : (Jvm.Cond.initialized "CoinNotThere$Sheet") ∈ lw_all := lw_g (lw_at lw_m1 11 rfl) rfl
theorem q268 : (Jvm.Cond.instantiable "CoinNotThere$Sheet" (1 : Nat)) ∈ lw_all := lw_g (lw_at lw_m1 220 rfl) rfl
theorem q270 : (Jvm.Cond.instanceMethod ({ cls := "CoinNotThere$Sheet", name := "<init>", desc := "()V" } : Jvm.MethodName)) ∈ lw_all := lw_g (lw_at lw_m1 222 rfl) rfl
theorem q271 : (Jvm.Cond.code ({ cls := "CoinNotThere$Sheet", name := "<init>", desc := "()V" } : Jvm.MethodName) prog_7_method_1_code (1 : Nat) (Option.none : Option Jvm.ClassFile.FieldType)) ∈ lw_all := lw_g (lw_at lw_m1 223 rfl) rfl
theorem q272 : (Jvm.Cond.methodLink "CoinNotThere$Sheet" (1 : Nat) ({ cls := "java/lang/Object", name := "<init>", desc := "()V" } : Jvm.MethodName)) ∈ lw_all := lw_g (lw_at lw_m1 224 rfl) rfl
theorem q273 : (Jvm.Cond.fieldLink "CoinNotThere$Sheet" (7 : Nat) "CoinNotThere$Sheet" "row" "Ljava/lang/Object;") ∈ lw_all := lw_g (lw_at lw_m1 225 rfl) rfl
theorem q275 : (Jvm.Cond.lays "CoinNotThere$Sheet" "CoinNotThere$Sheet" "row" "Ljava/lang/Object;") ∈ lw_all := lw_g (lw_at lw_m1 227 rfl) rfl
theorem q276 : (Jvm.Cond.soleField "CoinNotThere$Sheet" "row") ∈ lw_all := lw_g (lw_at lw_m1 228 rfl) rfl
theorem q277 : (Jvm.Cond.superclass "CoinNotThere$Sheet" "java/lang/Object") ∈ lw_all := lw_g (lw_at lw_m1 229 rfl) rfl
theorem q484 : (Jvm.Cond.selects "CoinNotThere$Sheet" ({ cls := "java/lang/Object", name := "getClass", desc := "()Ljava/lang/Class;" } : Jvm.MethodName) ({ cls := "java/lang/Object", name := "getClass", desc := "()Ljava/lang/Class;" } : Jvm.MethodName)) ∈ lw_all := lw_g (lw_at lw_m2 196 rfl) rfl
theorem q904 : (Jvm.Cond.instanceMethod ({ cls := "CoinNotThere$Sheet", name := "lane", desc := "()I" } : Jvm.MethodName)) ∈ lw_all := lw_g (lw_at lw_m4 136 rfl) rfl
theorem q905 : (Jvm.Cond.selects "CoinNotThere$Sheet" ({ cls := "CoinNotThere$Sheet", name := "lane", desc := "()I" } : Jvm.MethodName) ({ cls := "CoinNotThere$Sheet", name := "lane", desc := "()I" } : Jvm.MethodName)) ∈ lw_all := lw_g (lw_at lw_m4 137 rfl) rfl
theorem q906 : (Jvm.Cond.code ({ cls := "CoinNotThere$Sheet", name := "lane", desc := "()I" } : Jvm.MethodName) prog_7_method_2_code (1 : Nat) (Option.some Jvm.ClassFile.FieldType.int)) ∈ lw_all := lw_g (lw_at lw_m4 138 rfl) rfl
theorem q907 : (Jvm.Cond.classLink "CoinNotThere$Sheet" (13 : Nat) "[B") ∈ lw_all := lw_g (lw_at lw_m4 139 rfl) rfl
theorem q908 : (Jvm.Cond.classLink "CoinNotThere$Sheet" (15 : Nat) "[S") ∈ lw_all := lw_g (lw_at lw_m4 140 rfl) rfl
theorem q910 : (Jvm.Cond.instanceMethod ({ cls := "CoinNotThere$Sheet", name := "size", desc := "()I" } : Jvm.MethodName)) ∈ lw_all := lw_g (lw_at lw_m4 142 rfl) rfl
theorem q911 : (Jvm.Cond.selects "CoinNotThere$Sheet" ({ cls := "CoinNotThere$Sheet", name := "size", desc := "()I" } : Jvm.MethodName) ({ cls := "CoinNotThere$Sheet", name := "size", desc := "()I" } : Jvm.MethodName)) ∈ lw_all := lw_g (lw_at lw_m4 143 rfl) rfl
theorem q912 : (Jvm.Cond.code ({ cls := "CoinNotThere$Sheet", name := "size", desc := "()I" } : Jvm.MethodName) prog_7_method_3_code (3 : Nat) (Option.some Jvm.ClassFile.FieldType.int)) ∈ lw_all := lw_g (lw_at lw_m4 144 rfl) rfl
theorem q913 : (Jvm.Cond.classLink "CoinNotThere$Sheet" (17 : Nat) "[I") ∈ lw_all := lw_g (lw_at lw_m4 145 rfl) rfl
theorem q915 : (Jvm.Cond.instanceMethod ({ cls := "CoinNotThere$Sheet", name := "get", desc := "(I)I" } : Jvm.MethodName)) ∈ lw_all := lw_g (lw_at lw_m4 147 rfl) rfl
theorem q916 : (Jvm.Cond.selects "CoinNotThere$Sheet" ({ cls := "CoinNotThere$Sheet", name := "get", desc := "(I)I" } : Jvm.MethodName) ({ cls := "CoinNotThere$Sheet", name := "get", desc := "(I)I" } : Jvm.MethodName)) ∈ lw_all := lw_g (lw_at lw_m4 148 rfl) rfl
theorem q917 : (Jvm.Cond.code ({ cls := "CoinNotThere$Sheet", name := "get", desc := "(I)I" } : Jvm.MethodName) prog_7_method_4_code (4 : Nat) (Option.some Jvm.ClassFile.FieldType.int)) ∈ lw_all := lw_g (lw_at lw_m4 149 rfl) rfl
theorem q1385 : (Jvm.Cond.castable "CoinNotThere$Sheet" "java/lang/Object") ∈ lw_tbl := lw_at lw_m6 137 rfl
theorem in_X5 : ∀ w ∈ wsX50, w ∈ lw_all := lw_in wsX50 [275] (by decide +kernel) (by decide +kernel)
/-! CoinNotThere$Warned -/
set_option maxRecDepth 100000
def RX7 : String := "CoinNotThere$Warned"
def TX7 : u_T := fun k => match k with
  | 0 => ("CoinNotThere$Watcher", "seat", "I", true)
  | _ => ("CoinNotThere$Warned", "doubt", "I", false)
def tyX7 : Nat → FieldType := fun k => match k with
  | 0 => .int
  | _ => .int
abbrev wsX70 : List Cond := u_ws RX7 TX7 2
theorem nmX7 : ∀ a, a < 2 → ∀ b, b < 2 → a ≠ b → (TX7 a).2.1 ≠ (TX7 b).2.1 := by decide +kernel
theorem tyX7_ok : ∀ k, k < 2 → parseFieldDescriptor (TX7 k).2.2.1 = some (tyX7 k) := by decide +kernel
abbrev cX7_init : ByteArray := prog_8_method_1_code
def yX7_init : MethodName := ⟨RX7, "<init>", "(I)V"⟩
def dkwX7_init_0 : List UInt8 := [42, 27, 183, 0, 1, 42, 6, 181, 0, 7, 177]
abbrev dktX7_init_0 : List UInt8 := dkwX7_init_0 ++ []
theorem dksX7_init_0 : cX7_init.data.toList.drop 0 = dktX7_init_0 := by decide +kernel
theorem dX7_init_0 : decode cX7_init 0 = .ok (.aload_n 0, 1) := dk_42 (dk_at dksX7_init_0 0 rfl rfl)
theorem dX7_init_1 : decode cX7_init 1 = .ok (.iload_n 1, 1) := dk_27 (dk_at dksX7_init_0 1 rfl rfl)
theorem dX7_init_2 : decode cX7_init 2 = .ok (.invokespecial 1, 3) := dk_183 0 1 (dk_at dksX7_init_0 2 rfl rfl)
theorem dX7_init_5 : decode cX7_init 5 = .ok (.aload_n 0, 1) := dk_42 (dk_at dksX7_init_0 5 rfl rfl)
theorem dX7_init_6 : decode cX7_init 6 = .ok (.iconst 3, 1) := dk_6 (dk_at dksX7_init_0 6 rfl rfl)
theorem dX7_init_7 : decode cX7_init 7 = .ok (.putfield 7, 3) := dk_181 0 7 (dk_at dksX7_init_0 7 rfl rfl)
theorem dX7_init_10 : decode cX7_init 10 = .ok (.return_, 1) := dk_177 (dk_at dksX7_init_0 10 rfl rfl)
abbrev cX7_kind : ByteArray := prog_8_method_2_code
def yX7_kind : MethodName := ⟨RX7, "kind", "()I"⟩
theorem dX7_kind_0 : decode cX7_kind 0 = .ok (.iconst 1, 1) := by decide +kernel
theorem dX7_kind_1 : decode cX7_kind 1 = .ok (.ireturn, 1) := by decide +kernel
abbrev cX7_draws : ByteArray := prog_8_method_3_code
def yX7_draws : MethodName := ⟨RX7, "draws", "(LCoinNotThere$Routine;LCoinNotThere$Beat;I)I"⟩
def dkwX7_draws_1 : List UInt8 := [167, 0, 4, 3, 96, 172]
abbrev dktX7_draws_1 : List UInt8 := dkwX7_draws_1 ++ []
def dkwX7_draws_0 : List UInt8 := [42, 43, 44, 29, 183, 0, 13, 29, 5, 162, 0, 18, 44, 180, 0, 17, 29, 159, 0, 10, 42, 180, 0, 7]
abbrev dktX7_draws_0 : List UInt8 := dkwX7_draws_0 ++ dktX7_draws_1
theorem dksX7_draws_0 : cX7_draws.data.toList.drop 0 = dktX7_draws_0 := by decide +kernel
theorem dksX7_draws_1 : cX7_draws.data.toList.drop 24 = dktX7_draws_1 := dk_seg dksX7_draws_0 24 rfl rfl
theorem dX7_draws_0 : decode cX7_draws 0 = .ok (.aload_n 0, 1) := dk_42 (dk_at dksX7_draws_0 0 rfl rfl)
theorem dX7_draws_1 : decode cX7_draws 1 = .ok (.aload_n 1, 1) := dk_43 (dk_at dksX7_draws_0 1 rfl rfl)
theorem dX7_draws_2 : decode cX7_draws 2 = .ok (.aload_n 2, 1) := dk_44 (dk_at dksX7_draws_0 2 rfl rfl)
theorem dX7_draws_3 : decode cX7_draws 3 = .ok (.iload_n 3, 1) := dk_29 (dk_at dksX7_draws_0 3 rfl rfl)
theorem dX7_draws_4 : decode cX7_draws 4 = .ok (.invokespecial 13, 3) := dk_183 0 13 (dk_at dksX7_draws_0 4 rfl rfl)
theorem dX7_draws_7 : decode cX7_draws 7 = .ok (.iload_n 3, 1) := dk_29 (dk_at dksX7_draws_0 7 rfl rfl)
theorem dX7_draws_8 : decode cX7_draws 8 = .ok (.iconst 2, 1) := dk_5 (dk_at dksX7_draws_0 8 rfl rfl)
theorem dX7_draws_9 : decode cX7_draws 9 = .ok (.if_icmp .ge 18, 3) := dk_162 0 18 (dk_at dksX7_draws_0 9 rfl rfl)
theorem dX7_draws_12 : decode cX7_draws 12 = .ok (.aload_n 2, 1) := dk_44 (dk_at dksX7_draws_0 12 rfl rfl)
theorem dX7_draws_13 : decode cX7_draws 13 = .ok (.getfield 17, 3) := dk_180 0 17 (dk_at dksX7_draws_0 13 rfl rfl)
theorem dX7_draws_16 : decode cX7_draws 16 = .ok (.iload_n 3, 1) := dk_29 (dk_at dksX7_draws_0 16 rfl rfl)
theorem dX7_draws_17 : decode cX7_draws 17 = .ok (.if_icmp .eq 10, 3) := dk_159 0 10 (dk_at dksX7_draws_0 17 rfl rfl)
theorem dX7_draws_20 : decode cX7_draws 20 = .ok (.aload_n 0, 1) := dk_42 (dk_at dksX7_draws_0 20 rfl rfl)
theorem dX7_draws_21 : decode cX7_draws 21 = .ok (.getfield 7, 3) := dk_180 0 7 (dk_at dksX7_draws_0 21 rfl rfl)
theorem dX7_draws_24 : decode cX7_draws 24 = .ok (.goto 4, 3) := dk_167 0 4 (dk_at dksX7_draws_1 0 rfl rfl)
theorem dX7_draws_27 : decode cX7_draws 27 = .ok (.iconst 0, 1) := dk_3 (dk_at dksX7_draws_1 3 rfl rfl)
theorem dX7_draws_28 : decode cX7_draws 28 = .ok (.iadd, 1) := dk_96 (dk_at dksX7_draws_1 4 rfl rfl)
theorem dX7_draws_29 : decode cX7_draws 29 = .ok (.ireturn, 1) := dk_172 (dk_at dksX7_draws_1 5 rfl rfl)
abbrev cX7_warned : ByteArray := prog_8_method_5_code
def yX7_warned : MethodName := ⟨RX7, "warned", "()LCoinNotThere$Watcher;"⟩
theorem dX7_warned_0 : decode cX7_warned 0 = .ok (.aload_n 0, 1) := by decide +kernel
theorem dX7_warned_1 : decode cX7_warned 1 = .ok (.areturn, 1) := by decide +kernel
abbrev cX7_same : ByteArray := prog_8_method_4_code
def yX7_same : MethodName := ⟨RX7, "same", "()LCoinNotThere$Watcher;"⟩
def dkwX7_same_0 : List UInt8 := [187, 0, 8, 89, 42, 180, 0, 22, 183, 0, 25, 76, 43, 42, 180, 0, 7, 181, 0, 7, 43, 176]
abbrev dktX7_same_0 : List UInt8 := dkwX7_same_0 ++ []
theorem dksX7_same_0 : cX7_same.data.toList.drop 0 = dktX7_same_0 := by decide +kernel
theorem dX7_same_0 : decode cX7_same 0 = .ok (.new 8, 3) := dk_187 0 8 (dk_at dksX7_same_0 0 rfl rfl)
theorem dX7_same_3 : decode cX7_same 3 = .ok (.dup, 1) := dk_89 (dk_at dksX7_same_0 3 rfl rfl)
theorem dX7_same_4 : decode cX7_same 4 = .ok (.aload_n 0, 1) := dk_42 (dk_at dksX7_same_0 4 rfl rfl)
theorem dX7_same_5 : decode cX7_same 5 = .ok (.getfield 22, 3) := dk_180 0 22 (dk_at dksX7_same_0 5 rfl rfl)
theorem dX7_same_8 : decode cX7_same 8 = .ok (.invokespecial 25, 3) := dk_183 0 25 (dk_at dksX7_same_0 8 rfl rfl)
theorem dX7_same_11 : decode cX7_same 11 = .ok (.astore_n 1, 1) := dk_76 (dk_at dksX7_same_0 11 rfl rfl)
theorem dX7_same_12 : decode cX7_same 12 = .ok (.aload_n 1, 1) := dk_43 (dk_at dksX7_same_0 12 rfl rfl)
theorem dX7_same_13 : decode cX7_same 13 = .ok (.aload_n 0, 1) := dk_42 (dk_at dksX7_same_0 13 rfl rfl)
theorem dX7_same_14 : decode cX7_same 14 = .ok (.getfield 7, 3) := dk_180 0 7 (dk_at dksX7_same_0 14 rfl rfl)
theorem dX7_same_17 : decode cX7_same 17 = .ok (.putfield 7, 3) := dk_181 0 7 (dk_at dksX7_same_0 17 rfl rfl)
theorem dX7_same_20 : decode cX7_same 20 = .ok (.aload_n 1, 1) := dk_43 (dk_at dksX7_same_0 20 rfl rfl)
theorem dX7_same_21 : decode cX7_same 21 = .ok (.areturn, 1) := dk_176 (dk_at dksX7_same_0 21 rfl rfl)
theorem q63 : (Jvm.Cond.initialized "CoinNotThere$Warned") ∈ lw_all := lw_g (lw_at lw_m1 15 rfl) rfl
theorem q106 : (Jvm.Cond.fieldLinkNest "CoinNotThere$Warned" (17 : Nat) "CoinNotThere$Beat" "looks" "I" "CoinNotThere") ∈ lw_tbl := lw_at lw_m1 58 rfl
theorem q259 : (Jvm.Cond.fieldLink "CoinNotThere$Warned" (22 : Nat) "CoinNotThere$Warned" "seat" "I") ∈ lw_all := lw_g (lw_at lw_m1 211 rfl) rfl
theorem q260 : (Jvm.Cond.sameField "CoinNotThere$Warned" "CoinNotThere$Watcher" "seat" "I") ∈ lw_all := lw_g (lw_at lw_m1 212 rfl) rfl
theorem q414 : (Jvm.Cond.instantiable "CoinNotThere$Warned" (2 : Nat)) ∈ lw_all := lw_g (lw_at lw_m2 126 rfl) rfl
theorem q416 : (Jvm.Cond.instanceMethod ({ cls := "CoinNotThere$Warned", name := "<init>", desc := "(I)V" } : Jvm.MethodName)) ∈ lw_all := lw_g (lw_at lw_m2 128 rfl) rfl
theorem q417 : (Jvm.Cond.code ({ cls := "CoinNotThere$Warned", name := "<init>", desc := "(I)V" } : Jvm.MethodName) prog_8_method_1_code (2 : Nat) (Option.none : Option Jvm.ClassFile.FieldType)) ∈ lw_all := lw_g (lw_at lw_m2 129 rfl) rfl
theorem q418 : (Jvm.Cond.methodLink "CoinNotThere$Warned" (1 : Nat) ({ cls := "CoinNotThere$Watcher", name := "<init>", desc := "(I)V" } : Jvm.MethodName)) ∈ lw_all := lw_g (lw_at lw_m2 130 rfl) rfl
theorem q419 : (Jvm.Cond.fieldLink "CoinNotThere$Warned" (7 : Nat) "CoinNotThere$Warned" "doubt" "I") ∈ lw_all := lw_g (lw_at lw_m2 131 rfl) rfl
theorem q421 : (Jvm.Cond.lays "CoinNotThere$Warned" "CoinNotThere$Warned" "doubt" "I") ∈ lw_all := lw_g (lw_at lw_m2 133 rfl) rfl
theorem q422 : (Jvm.Cond.soleField "CoinNotThere$Warned" "doubt") ∈ lw_all := lw_g (lw_at lw_m2 134 rfl) rfl
theorem q423 : (Jvm.Cond.laysFinal "CoinNotThere$Warned" "CoinNotThere$Watcher" "seat" "I") ∈ lw_all := lw_g (lw_at lw_m2 135 rfl) rfl
theorem q424 : (Jvm.Cond.superclass "CoinNotThere$Warned" "CoinNotThere$Watcher") ∈ lw_all := lw_g (lw_at lw_m2 136 rfl) rfl
theorem q485 : (Jvm.Cond.selects "CoinNotThere$Warned" ({ cls := "java/lang/Object", name := "getClass", desc := "()Ljava/lang/Class;" } : Jvm.MethodName) ({ cls := "java/lang/Object", name := "getClass", desc := "()Ljava/lang/Class;" } : Jvm.MethodName)) ∈ lw_all := lw_g (lw_at lw_m2 197 rfl) rfl
theorem q560 : (Jvm.Cond.selects "CoinNotThere$Warned" ({ cls := "CoinNotThere$Watcher", name := "kind", desc := "()I" } : Jvm.MethodName) ({ cls := "CoinNotThere$Warned", name := "kind", desc := "()I" } : Jvm.MethodName)) ∈ lw_all := lw_g (lw_at lw_m3 32 rfl) rfl
theorem q561 : (Jvm.Cond.instanceMethod ({ cls := "CoinNotThere$Warned", name := "kind", desc := "()I" } : Jvm.MethodName)) ∈ lw_all := lw_g (lw_at lw_m3 33 rfl) rfl
theorem q562 : (Jvm.Cond.code ({ cls := "CoinNotThere$Warned", name := "kind", desc := "()I" } : Jvm.MethodName) prog_8_method_2_code (1 : Nat) (Option.some Jvm.ClassFile.FieldType.int)) ∈ lw_all := lw_g (lw_at lw_m3 34 rfl) rfl
theorem q570 : (Jvm.Cond.selects "CoinNotThere$Warned" ({ cls := "CoinNotThere$Watcher", name := "heed", desc := "(LCoinNotThere$Routine;I)I" } : Jvm.MethodName) ({ cls := "CoinNotThere$Watcher", name := "heed", desc := "(LCoinNotThere$Routine;I)I" } : Jvm.MethodName)) ∈ lw_all := lw_g (lw_at lw_m3 42 rfl) rfl
theorem q581 : (Jvm.Cond.selects "CoinNotThere$Warned" ({ cls := "CoinNotThere$Watcher", name := "listens", desc := "()Z" } : Jvm.MethodName) ({ cls := "CoinNotThere$Watcher", name := "listens", desc := "()Z" } : Jvm.MethodName)) ∈ lw_all := lw_g (lw_at lw_m3 53 rfl) rfl
theorem q714 : (Jvm.Cond.selects "CoinNotThere$Warned" ({ cls := "CoinNotThere$Watcher", name := "pull", desc := "(LCoinNotThere$Routine;III)I" } : Jvm.MethodName) ({ cls := "CoinNotThere$Watcher", name := "pull", desc := "(LCoinNotThere$Routine;III)I" } : Jvm.MethodName)) ∈ lw_all := lw_g (lw_at lw_m3 186 rfl) rfl
theorem q726 : (Jvm.Cond.selects "CoinNotThere$Warned" ({ cls := "CoinNotThere$Watcher", name := "draws", desc := "(LCoinNotThere$Routine;LCoinNotThere$Beat;I)I" } : Jvm.MethodName) ({ cls := "CoinNotThere$Warned", name := "draws", desc := "(LCoinNotThere$Routine;LCoinNotThere$Beat;I)I" } : Jvm.MethodName)) ∈ lw_all := lw_g (lw_at lw_m3 198 rfl) rfl
theorem q727 : (Jvm.Cond.instanceMethod ({ cls := "CoinNotThere$Warned", name := "draws", desc := "(LCoinNotThere$Routine;LCoinNotThere$Beat;I)I" } : Jvm.MethodName)) ∈ lw_all := lw_g (lw_at lw_m3 199 rfl) rfl
theorem q728 : (Jvm.Cond.code ({ cls := "CoinNotThere$Warned", name := "draws", desc := "(LCoinNotThere$Routine;LCoinNotThere$Beat;I)I" } : Jvm.MethodName) prog_8_method_3_code (4 : Nat) (Option.some Jvm.ClassFile.FieldType.int)) ∈ lw_all := lw_g (lw_at lw_m3 200 rfl) rfl
theorem q729 : (Jvm.Cond.methodLink "CoinNotThere$Warned" (13 : Nat) ({ cls := "CoinNotThere$Watcher", name := "draws", desc := "(LCoinNotThere$Routine;LCoinNotThere$Beat;I)I" } : Jvm.MethodName)) ∈ lw_all := lw_g (lw_at lw_m3 201 rfl) rfl
theorem q822 : (Jvm.Cond.selects "CoinNotThere$Warned" ({ cls := "CoinNotThere$Watcher", name := "warned", desc := "()LCoinNotThere$Watcher;" } : Jvm.MethodName) ({ cls := "CoinNotThere$Warned", name := "warned", desc := "()LCoinNotThere$Watcher;" } : Jvm.MethodName)) ∈ lw_all := lw_g (lw_at lw_m4 54 rfl) rfl
theorem q823 : (Jvm.Cond.instanceMethod ({ cls := "CoinNotThere$Warned", name := "warned", desc := "()LCoinNotThere$Watcher;" } : Jvm.MethodName)) ∈ lw_all := lw_g (lw_at lw_m4 55 rfl) rfl
theorem q824 : (Jvm.Cond.code ({ cls := "CoinNotThere$Warned", name := "warned", desc := "()LCoinNotThere$Watcher;" } : Jvm.MethodName) prog_8_method_5_code (1 : Nat) (Option.some (Jvm.ClassFile.FieldType.object "CoinNotThere$Watcher"))) ∈ lw_all := lw_g (lw_at lw_m4 56 rfl) rfl
theorem q880 : (Jvm.Cond.selects "CoinNotThere$Warned" ({ cls := "CoinNotThere$Watcher", name := "same", desc := "()LCoinNotThere$Watcher;" } : Jvm.MethodName) ({ cls := "CoinNotThere$Warned", name := "same", desc := "()LCoinNotThere$Watcher;" } : Jvm.MethodName)) ∈ lw_all := lw_g (lw_at lw_m4 112 rfl) rfl
theorem q881 : (Jvm.Cond.instanceMethod ({ cls := "CoinNotThere$Warned", name := "same", desc := "()LCoinNotThere$Watcher;" } : Jvm.MethodName)) ∈ lw_all := lw_g (lw_at lw_m4 113 rfl) rfl
theorem q882 : (Jvm.Cond.code ({ cls := "CoinNotThere$Warned", name := "same", desc := "()LCoinNotThere$Watcher;" } : Jvm.MethodName) prog_8_method_4_code (2 : Nat) (Option.some (Jvm.ClassFile.FieldType.object "CoinNotThere$Watcher"))) ∈ lw_all := lw_g (lw_at lw_m4 114 rfl) rfl
theorem q883 : (Jvm.Cond.classLink "CoinNotThere$Warned" (8 : Nat) "CoinNotThere$Warned") ∈ lw_all := lw_g (lw_at lw_m4 115 rfl) rfl
theorem q884 : (Jvm.Cond.methodLink "CoinNotThere$Warned" (25 : Nat) ({ cls := "CoinNotThere$Warned", name := "<init>", desc := "(I)V" } : Jvm.MethodName)) ∈ lw_all := lw_g (lw_at lw_m4 116 rfl) rfl
theorem q1383 : (Jvm.Cond.castable "CoinNotThere$Warned" "CoinNotThere$Watcher") ∈ lw_tbl := lw_at lw_m6 135 rfl
theorem q1392 : (Jvm.Cond.castable "CoinNotThere$Warned" "java/lang/Object") ∈ lw_tbl := lw_at lw_m6 144 rfl
theorem in_X7 : ∀ w ∈ wsX70, w ∈ lw_all := lw_in wsX70 [423, 421] (by decide +kernel) (by decide +kernel)
/-! CoinNotThere$Child -/
set_option maxRecDepth 100000
def RX8 : String := "CoinNotThere$Child"
def TX8 : u_T := fun k => match k with
  | _ => ("CoinNotThere$Watcher", "seat", "I", true)
def tyX8 : Nat → FieldType := fun k => match k with
  | _ => .int
abbrev wsX80 : List Cond := u_ws RX8 TX8 1
theorem nmX8 : ∀ a, a < 1 → ∀ b, b < 1 → a ≠ b → (TX8 a).2.1 ≠ (TX8 b).2.1 := by decide +kernel
theorem tyX8_ok : ∀ k, k < 1 → parseFieldDescriptor (TX8 k).2.2.1 = some (tyX8 k) := by decide +kernel
abbrev cX8_init : ByteArray := prog_3_method_1_code
def yX8_init : MethodName := ⟨RX8, "<init>", "(I)V"⟩
def dkwX8_init_0 : List UInt8 := [42, 27, 183, 0, 1, 177]
abbrev dktX8_init_0 : List UInt8 := dkwX8_init_0 ++ []
theorem dksX8_init_0 : cX8_init.data.toList.drop 0 = dktX8_init_0 := by decide +kernel
theorem dX8_init_0 : decode cX8_init 0 = .ok (.aload_n 0, 1) := dk_42 (dk_at dksX8_init_0 0 rfl rfl)
theorem dX8_init_1 : decode cX8_init 1 = .ok (.iload_n 1, 1) := dk_27 (dk_at dksX8_init_0 1 rfl rfl)
theorem dX8_init_2 : decode cX8_init 2 = .ok (.invokespecial 1, 3) := dk_183 0 1 (dk_at dksX8_init_0 2 rfl rfl)
theorem dX8_init_5 : decode cX8_init 5 = .ok (.return_, 1) := dk_177 (dk_at dksX8_init_0 5 rfl rfl)
abbrev cX8_kind : ByteArray := prog_3_method_2_code
def yX8_kind : MethodName := ⟨RX8, "kind", "()I"⟩
theorem dX8_kind_0 : decode cX8_kind 0 = .ok (.iconst 2, 1) := by decide +kernel
theorem dX8_kind_1 : decode cX8_kind 1 = .ok (.ireturn, 1) := by decide +kernel
abbrev cX8_listens : ByteArray := prog_3_method_3_code
def yX8_listens : MethodName := ⟨RX8, "listens", "()Z"⟩
theorem dX8_listens_0 : decode cX8_listens 0 = .ok (.iconst 0, 1) := by decide +kernel
theorem dX8_listens_1 : decode cX8_listens 1 = .ok (.ireturn, 1) := by decide +kernel
abbrev cX8_warned : ByteArray := prog_3_method_5_code
def yX8_warned : MethodName := ⟨RX8, "warned", "()LCoinNotThere$Watcher;"⟩
theorem dX8_warned_0 : decode cX8_warned 0 = .ok (.aload_n 0, 1) := by decide +kernel
theorem dX8_warned_1 : decode cX8_warned 1 = .ok (.areturn, 1) := by decide +kernel
abbrev cX8_same : ByteArray := prog_3_method_4_code
def yX8_same : MethodName := ⟨RX8, "same", "()LCoinNotThere$Watcher;"⟩
def dkwX8_same_0 : List UInt8 := [187, 0, 7, 89, 42, 180, 0, 9, 183, 0, 13, 176]
abbrev dktX8_same_0 : List UInt8 := dkwX8_same_0 ++ []
theorem dksX8_same_0 : cX8_same.data.toList.drop 0 = dktX8_same_0 := by decide +kernel
theorem dX8_same_0 : decode cX8_same 0 = .ok (.new 7, 3) := dk_187 0 7 (dk_at dksX8_same_0 0 rfl rfl)
theorem dX8_same_3 : decode cX8_same 3 = .ok (.dup, 1) := dk_89 (dk_at dksX8_same_0 3 rfl rfl)
theorem dX8_same_4 : decode cX8_same 4 = .ok (.aload_n 0, 1) := dk_42 (dk_at dksX8_same_0 4 rfl rfl)
theorem dX8_same_5 : decode cX8_same 5 = .ok (.getfield 9, 3) := dk_180 0 9 (dk_at dksX8_same_0 5 rfl rfl)
theorem dX8_same_8 : decode cX8_same 8 = .ok (.invokespecial 13, 3) := dk_183 0 13 (dk_at dksX8_same_0 8 rfl rfl)
theorem dX8_same_11 : decode cX8_same 11 = .ok (.areturn, 1) := dk_176 (dk_at dksX8_same_0 11 rfl rfl)
theorem q64 : (Jvm.Cond.initialized "CoinNotThere$Child") ∈ lw_all := lw_g (lw_at lw_m1 16 rfl) rfl
theorem q255 : (Jvm.Cond.fieldLink "CoinNotThere$Child" (9 : Nat) "CoinNotThere$Child" "seat" "I") ∈ lw_all := lw_g (lw_at lw_m1 207 rfl) rfl
theorem q256 : (Jvm.Cond.sameField "CoinNotThere$Child" "CoinNotThere$Watcher" "seat" "I") ∈ lw_all := lw_g (lw_at lw_m1 208 rfl) rfl
theorem q426 : (Jvm.Cond.instantiable "CoinNotThere$Child" (1 : Nat)) ∈ lw_all := lw_g (lw_at lw_m2 138 rfl) rfl
theorem q428 : (Jvm.Cond.instanceMethod ({ cls := "CoinNotThere$Child", name := "<init>", desc := "(I)V" } : Jvm.MethodName)) ∈ lw_all := lw_g (lw_at lw_m2 140 rfl) rfl
theorem q429 : (Jvm.Cond.code ({ cls := "CoinNotThere$Child", name := "<init>", desc := "(I)V" } : Jvm.MethodName) prog_3_method_1_code (2 : Nat) (Option.none : Option Jvm.ClassFile.FieldType)) ∈ lw_all := lw_g (lw_at lw_m2 141 rfl) rfl
theorem q430 : (Jvm.Cond.methodLink "CoinNotThere$Child" (1 : Nat) ({ cls := "CoinNotThere$Watcher", name := "<init>", desc := "(I)V" } : Jvm.MethodName)) ∈ lw_all := lw_g (lw_at lw_m2 142 rfl) rfl
theorem q431 : (Jvm.Cond.laysFinal "CoinNotThere$Child" "CoinNotThere$Watcher" "seat" "I") ∈ lw_all := lw_g (lw_at lw_m2 143 rfl) rfl
theorem q432 : (Jvm.Cond.superclass "CoinNotThere$Child" "CoinNotThere$Watcher") ∈ lw_all := lw_g (lw_at lw_m2 144 rfl) rfl
theorem q480 : (Jvm.Cond.selects "CoinNotThere$Child" ({ cls := "java/lang/Object", name := "getClass", desc := "()Ljava/lang/Class;" } : Jvm.MethodName) ({ cls := "java/lang/Object", name := "getClass", desc := "()Ljava/lang/Class;" } : Jvm.MethodName)) ∈ lw_all := lw_g (lw_at lw_m2 192 rfl) rfl
theorem q554 : (Jvm.Cond.selects "CoinNotThere$Child" ({ cls := "CoinNotThere$Watcher", name := "kind", desc := "()I" } : Jvm.MethodName) ({ cls := "CoinNotThere$Child", name := "kind", desc := "()I" } : Jvm.MethodName)) ∈ lw_all := lw_g (lw_at lw_m3 26 rfl) rfl
theorem q555 : (Jvm.Cond.instanceMethod ({ cls := "CoinNotThere$Child", name := "kind", desc := "()I" } : Jvm.MethodName)) ∈ lw_all := lw_g (lw_at lw_m3 27 rfl) rfl
theorem q556 : (Jvm.Cond.code ({ cls := "CoinNotThere$Child", name := "kind", desc := "()I" } : Jvm.MethodName) prog_3_method_2_code (1 : Nat) (Option.some Jvm.ClassFile.FieldType.int)) ∈ lw_all := lw_g (lw_at lw_m3 28 rfl) rfl
theorem q568 : (Jvm.Cond.selects "CoinNotThere$Child" ({ cls := "CoinNotThere$Watcher", name := "heed", desc := "(LCoinNotThere$Routine;I)I" } : Jvm.MethodName) ({ cls := "CoinNotThere$Watcher", name := "heed", desc := "(LCoinNotThere$Routine;I)I" } : Jvm.MethodName)) ∈ lw_all := lw_g (lw_at lw_m3 40 rfl) rfl
theorem q577 : (Jvm.Cond.selects "CoinNotThere$Child" ({ cls := "CoinNotThere$Watcher", name := "listens", desc := "()Z" } : Jvm.MethodName) ({ cls := "CoinNotThere$Child", name := "listens", desc := "()Z" } : Jvm.MethodName)) ∈ lw_all := lw_g (lw_at lw_m3 49 rfl) rfl
theorem q578 : (Jvm.Cond.instanceMethod ({ cls := "CoinNotThere$Child", name := "listens", desc := "()Z" } : Jvm.MethodName)) ∈ lw_all := lw_g (lw_at lw_m3 50 rfl) rfl
theorem q579 : (Jvm.Cond.code ({ cls := "CoinNotThere$Child", name := "listens", desc := "()Z" } : Jvm.MethodName) prog_3_method_3_code (1 : Nat) (Option.some Jvm.ClassFile.FieldType.boolean)) ∈ lw_all := lw_g (lw_at lw_m3 51 rfl) rfl
theorem q712 : (Jvm.Cond.selects "CoinNotThere$Child" ({ cls := "CoinNotThere$Watcher", name := "pull", desc := "(LCoinNotThere$Routine;III)I" } : Jvm.MethodName) ({ cls := "CoinNotThere$Watcher", name := "pull", desc := "(LCoinNotThere$Routine;III)I" } : Jvm.MethodName)) ∈ lw_all := lw_g (lw_at lw_m3 184 rfl) rfl
theorem q720 : (Jvm.Cond.selects "CoinNotThere$Child" ({ cls := "CoinNotThere$Watcher", name := "draws", desc := "(LCoinNotThere$Routine;LCoinNotThere$Beat;I)I" } : Jvm.MethodName) ({ cls := "CoinNotThere$Watcher", name := "draws", desc := "(LCoinNotThere$Routine;LCoinNotThere$Beat;I)I" } : Jvm.MethodName)) ∈ lw_all := lw_g (lw_at lw_m3 192 rfl) rfl
theorem q816 : (Jvm.Cond.selects "CoinNotThere$Child" ({ cls := "CoinNotThere$Watcher", name := "warned", desc := "()LCoinNotThere$Watcher;" } : Jvm.MethodName) ({ cls := "CoinNotThere$Child", name := "warned", desc := "()LCoinNotThere$Watcher;" } : Jvm.MethodName)) ∈ lw_all := lw_g (lw_at lw_m4 48 rfl) rfl
theorem q817 : (Jvm.Cond.instanceMethod ({ cls := "CoinNotThere$Child", name := "warned", desc := "()LCoinNotThere$Watcher;" } : Jvm.MethodName)) ∈ lw_all := lw_g (lw_at lw_m4 49 rfl) rfl
theorem q818 : (Jvm.Cond.code ({ cls := "CoinNotThere$Child", name := "warned", desc := "()LCoinNotThere$Watcher;" } : Jvm.MethodName) prog_3_method_5_code (1 : Nat) (Option.some (Jvm.ClassFile.FieldType.object "CoinNotThere$Watcher"))) ∈ lw_all := lw_g (lw_at lw_m4 50 rfl) rfl
theorem q870 : (Jvm.Cond.selects "CoinNotThere$Child" ({ cls := "CoinNotThere$Watcher", name := "same", desc := "()LCoinNotThere$Watcher;" } : Jvm.MethodName) ({ cls := "CoinNotThere$Child", name := "same", desc := "()LCoinNotThere$Watcher;" } : Jvm.MethodName)) ∈ lw_all := lw_g (lw_at lw_m4 102 rfl) rfl
theorem q871 : (Jvm.Cond.instanceMethod ({ cls := "CoinNotThere$Child", name := "same", desc := "()LCoinNotThere$Watcher;" } : Jvm.MethodName)) ∈ lw_all := lw_g (lw_at lw_m4 103 rfl) rfl
theorem q872 : (Jvm.Cond.code ({ cls := "CoinNotThere$Child", name := "same", desc := "()LCoinNotThere$Watcher;" } : Jvm.MethodName) prog_3_method_4_code (1 : Nat) (Option.some (Jvm.ClassFile.FieldType.object "CoinNotThere$Watcher"))) ∈ lw_all := lw_g (lw_at lw_m4 104 rfl) rfl
theorem q873 : (Jvm.Cond.classLink "CoinNotThere$Child" (7 : Nat) "CoinNotThere$Child") ∈ lw_all := lw_g (lw_at lw_m4 105 rfl) rfl
theorem q874 : (Jvm.Cond.methodLink "CoinNotThere$Child" (13 : Nat) ({ cls := "CoinNotThere$Child", name := "<init>", desc := "(I)V" } : Jvm.MethodName)) ∈ lw_all := lw_g (lw_at lw_m4 106 rfl) rfl
theorem q1381 : (Jvm.Cond.castable "CoinNotThere$Child" "CoinNotThere$Watcher") ∈ lw_tbl := lw_at lw_m6 133 rfl
theorem q1393 : (Jvm.Cond.castable "CoinNotThere$Child" "java/lang/Object") ∈ lw_tbl := lw_at lw_m6 145 rfl
theorem in_X8 : ∀ w ∈ wsX80, w ∈ lw_all := lw_in wsX80 [431] (by decide +kernel) (by decide +kernel)
/-! CoinNotThere$Crossed -/
set_option maxRecDepth 100000
def RX9 : String := "CoinNotThere$Crossed"
def TX9 : u_T := fun k => match k with
  | _ => ("CoinNotThere$Watcher", "seat", "I", true)
def tyX9 : Nat → FieldType := fun k => match k with
  | _ => .int
abbrev wsX90 : List Cond := u_ws RX9 TX9 1
theorem nmX9 : ∀ a, a < 1 → ∀ b, b < 1 → a ≠ b → (TX9 a).2.1 ≠ (TX9 b).2.1 := by decide +kernel
theorem tyX9_ok : ∀ k, k < 1 → parseFieldDescriptor (TX9 k).2.2.1 = some (tyX9 k) := by decide +kernel
abbrev cX9_init : ByteArray := prog_4_method_1_code
def yX9_init : MethodName := ⟨RX9, "<init>", "(I)V"⟩
def dkwX9_init_0 : List UInt8 := [42, 27, 183, 0, 1, 177]
abbrev dktX9_init_0 : List UInt8 := dkwX9_init_0 ++ []
theorem dksX9_init_0 : cX9_init.data.toList.drop 0 = dktX9_init_0 := by decide +kernel
theorem dX9_init_0 : decode cX9_init 0 = .ok (.aload_n 0, 1) := dk_42 (dk_at dksX9_init_0 0 rfl rfl)
theorem dX9_init_1 : decode cX9_init 1 = .ok (.iload_n 1, 1) := dk_27 (dk_at dksX9_init_0 1 rfl rfl)
theorem dX9_init_2 : decode cX9_init 2 = .ok (.invokespecial 1, 3) := dk_183 0 1 (dk_at dksX9_init_0 2 rfl rfl)
theorem dX9_init_5 : decode cX9_init 5 = .ok (.return_, 1) := dk_177 (dk_at dksX9_init_0 5 rfl rfl)
abbrev cX9_kind : ByteArray := prog_4_method_2_code
def yX9_kind : MethodName := ⟨RX9, "kind", "()I"⟩
theorem dX9_kind_0 : decode cX9_kind 0 = .ok (.iconst 3, 1) := by decide +kernel
theorem dX9_kind_1 : decode cX9_kind 1 = .ok (.ireturn, 1) := by decide +kernel
abbrev cX9_draws : ByteArray := prog_4_method_3_code
def yX9_draws : MethodName := ⟨RX9, "draws", "(LCoinNotThere$Routine;LCoinNotThere$Beat;I)I"⟩
def dkwX9_draws_0 : List UInt8 := [42, 43, 44, 29, 5, 162, 0, 9, 4, 29, 100, 167, 0, 4, 29, 183, 0, 7, 172]
abbrev dktX9_draws_0 : List UInt8 := dkwX9_draws_0 ++ []
theorem dksX9_draws_0 : cX9_draws.data.toList.drop 0 = dktX9_draws_0 := by decide +kernel
theorem dX9_draws_0 : decode cX9_draws 0 = .ok (.aload_n 0, 1) := dk_42 (dk_at dksX9_draws_0 0 rfl rfl)
theorem dX9_draws_1 : decode cX9_draws 1 = .ok (.aload_n 1, 1) := dk_43 (dk_at dksX9_draws_0 1 rfl rfl)
theorem dX9_draws_2 : decode cX9_draws 2 = .ok (.aload_n 2, 1) := dk_44 (dk_at dksX9_draws_0 2 rfl rfl)
theorem dX9_draws_3 : decode cX9_draws 3 = .ok (.iload_n 3, 1) := dk_29 (dk_at dksX9_draws_0 3 rfl rfl)
theorem dX9_draws_4 : decode cX9_draws 4 = .ok (.iconst 2, 1) := dk_5 (dk_at dksX9_draws_0 4 rfl rfl)
theorem dX9_draws_5 : decode cX9_draws 5 = .ok (.if_icmp .ge 9, 3) := dk_162 0 9 (dk_at dksX9_draws_0 5 rfl rfl)
theorem dX9_draws_8 : decode cX9_draws 8 = .ok (.iconst 1, 1) := dk_4 (dk_at dksX9_draws_0 8 rfl rfl)
theorem dX9_draws_9 : decode cX9_draws 9 = .ok (.iload_n 3, 1) := dk_29 (dk_at dksX9_draws_0 9 rfl rfl)
theorem dX9_draws_10 : decode cX9_draws 10 = .ok (.isub, 1) := dk_100 (dk_at dksX9_draws_0 10 rfl rfl)
theorem dX9_draws_11 : decode cX9_draws 11 = .ok (.goto 4, 3) := dk_167 0 4 (dk_at dksX9_draws_0 11 rfl rfl)
theorem dX9_draws_14 : decode cX9_draws 14 = .ok (.iload_n 3, 1) := dk_29 (dk_at dksX9_draws_0 14 rfl rfl)
theorem dX9_draws_15 : decode cX9_draws 15 = .ok (.invokespecial 7, 3) := dk_183 0 7 (dk_at dksX9_draws_0 15 rfl rfl)
theorem dX9_draws_18 : decode cX9_draws 18 = .ok (.ireturn, 1) := dk_172 (dk_at dksX9_draws_0 18 rfl rfl)
abbrev cX9_warned : ByteArray := prog_4_method_5_code
def yX9_warned : MethodName := ⟨RX9, "warned", "()LCoinNotThere$Watcher;"⟩
theorem dX9_warned_0 : decode cX9_warned 0 = .ok (.aload_n 0, 1) := by decide +kernel
theorem dX9_warned_1 : decode cX9_warned 1 = .ok (.areturn, 1) := by decide +kernel
abbrev cX9_same : ByteArray := prog_4_method_4_code
def yX9_same : MethodName := ⟨RX9, "same", "()LCoinNotThere$Watcher;"⟩
def dkwX9_same_0 : List UInt8 := [187, 0, 11, 89, 42, 180, 0, 13, 183, 0, 17, 176]
abbrev dktX9_same_0 : List UInt8 := dkwX9_same_0 ++ []
theorem dksX9_same_0 : cX9_same.data.toList.drop 0 = dktX9_same_0 := by decide +kernel
theorem dX9_same_0 : decode cX9_same 0 = .ok (.new 11, 3) := dk_187 0 11 (dk_at dksX9_same_0 0 rfl rfl)
theorem dX9_same_3 : decode cX9_same 3 = .ok (.dup, 1) := dk_89 (dk_at dksX9_same_0 3 rfl rfl)
theorem dX9_same_4 : decode cX9_same 4 = .ok (.aload_n 0, 1) := dk_42 (dk_at dksX9_same_0 4 rfl rfl)
theorem dX9_same_5 : decode cX9_same 5 = .ok (.getfield 13, 3) := dk_180 0 13 (dk_at dksX9_same_0 5 rfl rfl)
theorem dX9_same_8 : decode cX9_same 8 = .ok (.invokespecial 17, 3) := dk_183 0 17 (dk_at dksX9_same_0 8 rfl rfl)
theorem dX9_same_11 : decode cX9_same 11 = .ok (.areturn, 1) := dk_176 (dk_at dksX9_same_0 11 rfl rfl)
theorem q65 : (Jvm.Cond.initialized "CoinNotThere$Crossed") ∈ lw_all := lw_g (lw_at lw_m1 17 rfl) rfl
theorem q257 : (Jvm.Cond.fieldLink "CoinNotThere$Crossed" (13 : Nat) "CoinNotThere$Crossed" "seat" "I") ∈ lw_all := lw_g (lw_at lw_m1 209 rfl) rfl
theorem q258 : (Jvm.Cond.sameField "CoinNotThere$Crossed" "CoinNotThere$Watcher" "seat" "I") ∈ lw_all := lw_g (lw_at lw_m1 210 rfl) rfl
theorem q434 : (Jvm.Cond.instantiable "CoinNotThere$Crossed" (1 : Nat)) ∈ lw_all := lw_g (lw_at lw_m2 146 rfl) rfl
theorem q436 : (Jvm.Cond.instanceMethod ({ cls := "CoinNotThere$Crossed", name := "<init>", desc := "(I)V" } : Jvm.MethodName)) ∈ lw_all := lw_g (lw_at lw_m2 148 rfl) rfl
theorem q437 : (Jvm.Cond.code ({ cls := "CoinNotThere$Crossed", name := "<init>", desc := "(I)V" } : Jvm.MethodName) prog_4_method_1_code (2 : Nat) (Option.none : Option Jvm.ClassFile.FieldType)) ∈ lw_all := lw_g (lw_at lw_m2 149 rfl) rfl
theorem q438 : (Jvm.Cond.methodLink "CoinNotThere$Crossed" (1 : Nat) ({ cls := "CoinNotThere$Watcher", name := "<init>", desc := "(I)V" } : Jvm.MethodName)) ∈ lw_all := lw_g (lw_at lw_m2 150 rfl) rfl
theorem q439 : (Jvm.Cond.laysFinal "CoinNotThere$Crossed" "CoinNotThere$Watcher" "seat" "I") ∈ lw_all := lw_g (lw_at lw_m2 151 rfl) rfl
theorem q440 : (Jvm.Cond.superclass "CoinNotThere$Crossed" "CoinNotThere$Watcher") ∈ lw_all := lw_g (lw_at lw_m2 152 rfl) rfl
theorem q481 : (Jvm.Cond.selects "CoinNotThere$Crossed" ({ cls := "java/lang/Object", name := "getClass", desc := "()Ljava/lang/Class;" } : Jvm.MethodName) ({ cls := "java/lang/Object", name := "getClass", desc := "()Ljava/lang/Class;" } : Jvm.MethodName)) ∈ lw_all := lw_g (lw_at lw_m2 193 rfl) rfl
theorem q557 : (Jvm.Cond.selects "CoinNotThere$Crossed" ({ cls := "CoinNotThere$Watcher", name := "kind", desc := "()I" } : Jvm.MethodName) ({ cls := "CoinNotThere$Crossed", name := "kind", desc := "()I" } : Jvm.MethodName)) ∈ lw_all := lw_g (lw_at lw_m3 29 rfl) rfl
theorem q558 : (Jvm.Cond.instanceMethod ({ cls := "CoinNotThere$Crossed", name := "kind", desc := "()I" } : Jvm.MethodName)) ∈ lw_all := lw_g (lw_at lw_m3 30 rfl) rfl
theorem q559 : (Jvm.Cond.code ({ cls := "CoinNotThere$Crossed", name := "kind", desc := "()I" } : Jvm.MethodName) prog_4_method_2_code (1 : Nat) (Option.some Jvm.ClassFile.FieldType.int)) ∈ lw_all := lw_g (lw_at lw_m3 31 rfl) rfl
theorem q569 : (Jvm.Cond.selects "CoinNotThere$Crossed" ({ cls := "CoinNotThere$Watcher", name := "heed", desc := "(LCoinNotThere$Routine;I)I" } : Jvm.MethodName) ({ cls := "CoinNotThere$Watcher", name := "heed", desc := "(LCoinNotThere$Routine;I)I" } : Jvm.MethodName)) ∈ lw_all := lw_g (lw_at lw_m3 41 rfl) rfl
theorem q580 : (Jvm.Cond.selects "CoinNotThere$Crossed" ({ cls := "CoinNotThere$Watcher", name := "listens", desc := "()Z" } : Jvm.MethodName) ({ cls := "CoinNotThere$Watcher", name := "listens", desc := "()Z" } : Jvm.MethodName)) ∈ lw_all := lw_g (lw_at lw_m3 52 rfl) rfl
theorem q713 : (Jvm.Cond.selects "CoinNotThere$Crossed" ({ cls := "CoinNotThere$Watcher", name := "pull", desc := "(LCoinNotThere$Routine;III)I" } : Jvm.MethodName) ({ cls := "CoinNotThere$Watcher", name := "pull", desc := "(LCoinNotThere$Routine;III)I" } : Jvm.MethodName)) ∈ lw_all := lw_g (lw_at lw_m3 185 rfl) rfl
theorem q721 : (Jvm.Cond.selects "CoinNotThere$Crossed" ({ cls := "CoinNotThere$Watcher", name := "draws", desc := "(LCoinNotThere$Routine;LCoinNotThere$Beat;I)I" } : Jvm.MethodName) ({ cls := "CoinNotThere$Crossed", name := "draws", desc := "(LCoinNotThere$Routine;LCoinNotThere$Beat;I)I" } : Jvm.MethodName)) ∈ lw_all := lw_g (lw_at lw_m3 193 rfl) rfl
theorem q722 : (Jvm.Cond.instanceMethod ({ cls := "CoinNotThere$Crossed", name := "draws", desc := "(LCoinNotThere$Routine;LCoinNotThere$Beat;I)I" } : Jvm.MethodName)) ∈ lw_all := lw_g (lw_at lw_m3 194 rfl) rfl
theorem q723 : (Jvm.Cond.code ({ cls := "CoinNotThere$Crossed", name := "draws", desc := "(LCoinNotThere$Routine;LCoinNotThere$Beat;I)I" } : Jvm.MethodName) prog_4_method_3_code (4 : Nat) (Option.some Jvm.ClassFile.FieldType.int)) ∈ lw_all := lw_g (lw_at lw_m3 195 rfl) rfl
theorem q724 : (Jvm.Cond.methodLink "CoinNotThere$Crossed" (7 : Nat) ({ cls := "CoinNotThere$Watcher", name := "draws", desc := "(LCoinNotThere$Routine;LCoinNotThere$Beat;I)I" } : Jvm.MethodName)) ∈ lw_all := lw_g (lw_at lw_m3 196 rfl) rfl
theorem q819 : (Jvm.Cond.selects "CoinNotThere$Crossed" ({ cls := "CoinNotThere$Watcher", name := "warned", desc := "()LCoinNotThere$Watcher;" } : Jvm.MethodName) ({ cls := "CoinNotThere$Crossed", name := "warned", desc := "()LCoinNotThere$Watcher;" } : Jvm.MethodName)) ∈ lw_all := lw_g (lw_at lw_m4 51 rfl) rfl
theorem q820 : (Jvm.Cond.instanceMethod ({ cls := "CoinNotThere$Crossed", name := "warned", desc := "()LCoinNotThere$Watcher;" } : Jvm.MethodName)) ∈ lw_all := lw_g (lw_at lw_m4 52 rfl) rfl
theorem q821 : (Jvm.Cond.code ({ cls := "CoinNotThere$Crossed", name := "warned", desc := "()LCoinNotThere$Watcher;" } : Jvm.MethodName) prog_4_method_5_code (1 : Nat) (Option.some (Jvm.ClassFile.FieldType.object "CoinNotThere$Watcher"))) ∈ lw_all := lw_g (lw_at lw_m4 53 rfl) rfl
theorem q875 : (Jvm.Cond.selects "CoinNotThere$Crossed" ({ cls := "CoinNotThere$Watcher", name := "same", desc := "()LCoinNotThere$Watcher;" } : Jvm.MethodName) ({ cls := "CoinNotThere$Crossed", name := "same", desc := "()LCoinNotThere$Watcher;" } : Jvm.MethodName)) ∈ lw_all := lw_g (lw_at lw_m4 107 rfl) rfl
theorem q876 : (Jvm.Cond.instanceMethod ({ cls := "CoinNotThere$Crossed", name := "same", desc := "()LCoinNotThere$Watcher;" } : Jvm.MethodName)) ∈ lw_all := lw_g (lw_at lw_m4 108 rfl) rfl
theorem q877 : (Jvm.Cond.code ({ cls := "CoinNotThere$Crossed", name := "same", desc := "()LCoinNotThere$Watcher;" } : Jvm.MethodName) prog_4_method_4_code (1 : Nat) (Option.some (Jvm.ClassFile.FieldType.object "CoinNotThere$Watcher"))) ∈ lw_all := lw_g (lw_at lw_m4 109 rfl) rfl
theorem q878 : (Jvm.Cond.classLink "CoinNotThere$Crossed" (11 : Nat) "CoinNotThere$Crossed") ∈ lw_all := lw_g (lw_at lw_m4 110 rfl) rfl
theorem q879 : (Jvm.Cond.methodLink "CoinNotThere$Crossed" (17 : Nat) ({ cls := "CoinNotThere$Crossed", name := "<init>", desc := "(I)V" } : Jvm.MethodName)) ∈ lw_all := lw_g (lw_at lw_m4 111 rfl) rfl
theorem q1382 : (Jvm.Cond.castable "CoinNotThere$Crossed" "CoinNotThere$Watcher") ∈ lw_tbl := lw_at lw_m6 134 rfl
theorem q1394 : (Jvm.Cond.castable "CoinNotThere$Crossed" "java/lang/Object") ∈ lw_tbl := lw_at lw_m6 146 rfl
theorem in_X9 : ∀ w ∈ wsX90, w ∈ lw_all := lw_in wsX90 [439] (by decide +kernel) (by decide +kernel)
theorem q48 : (Jvm.Cond.initialized "CoinNotThereLaw") ∈ lw_all := lw_g (lw_at lw_m1 0 rfl) rfl
set_option maxRecDepth 100000
theorem q78 : (Jvm.Cond.classLink "CoinNotThereLaw" (7 : Nat) "CoinNotThere") ∈ lw_all := lw_g (lw_at lw_m1 30 rfl) rfl
theorem q80 : (Jvm.Cond.methodLink "CoinNotThereLaw" (9 : Nat) ({ cls := "CoinNotThere", name := "<init>", desc := "()V" } : Jvm.MethodName)) ∈ lw_all := lw_g (lw_at lw_m1 32 rfl) rfl
theorem q348 : (Jvm.Cond.methodLink "CoinNotThereLaw" (13 : Nat) ({ cls := "CoinNotThere", name := "act", desc := "(IIII)I" } : Jvm.MethodName)) ∈ lw_all := lw_g (lw_at lw_m2 60 rfl) rfl
theorem q361 : (Jvm.Cond.methodLink "CoinNotThereLaw" (18 : Nat) ({ cls := "CoinNotThere", name := "cue", desc := "(III)I" } : Jvm.MethodName)) ∈ lw_all := lw_g (lw_at lw_m2 73 rfl) rfl
theorem q365 : (Jvm.Cond.methodLink "CoinNotThereLaw" (23 : Nat) ({ cls := "CoinNotThere", name := "stand", desc := "(I)I" } : Jvm.MethodName)) ∈ lw_all := lw_g (lw_at lw_m2 77 rfl) rfl
theorem q369 : (Jvm.Cond.methodLink "CoinNotThereLaw" (28 : Nat) ({ cls := "CoinNotThere", name := "habit", desc := "(II)I" } : Jvm.MethodName)) ∈ lw_all := lw_g (lw_at lw_m2 81 rfl) rfl
theorem q373 : (Jvm.Cond.methodLink "CoinNotThereLaw" (33 : Nat) ({ cls := "CoinNotThere", name := "watcher", desc := "(II)I" } : Jvm.MethodName)) ∈ lw_all := lw_g (lw_at lw_m2 85 rfl) rfl
theorem q509 : (Jvm.Cond.methodLink "CoinNotThereLaw" (37 : Nat) ({ cls := "CoinNotThere", name := "doubt", desc := "(II)I" } : Jvm.MethodName)) ∈ lw_all := lw_g (lw_at lw_m2 221 rfl) rfl
theorem q546 : (Jvm.Cond.methodLink "CoinNotThereLaw" (41 : Nat) ({ cls := "CoinNotThere", name := "told", desc := "(II)I" } : Jvm.MethodName)) ∈ lw_all := lw_g (lw_at lw_m3 18 rfl) rfl
theorem q584 : (Jvm.Cond.methodLink "CoinNotThereLaw" (45 : Nat) ({ cls := "CoinNotThere", name := "leave", desc := "(I)I" } : Jvm.MethodName)) ∈ lw_all := lw_g (lw_at lw_m3 56 rfl) rfl
theorem q602 : (Jvm.Cond.methodLink "CoinNotThereLaw" (65 : Nat) ({ cls := "CoinNotThere", name := "count", desc := "(I)I" } : Jvm.MethodName)) ∈ lw_all := lw_g (lw_at lw_m3 74 rfl) rfl
theorem q606 : (Jvm.Cond.methodLink "CoinNotThereLaw" (51 : Nat) ({ cls := "CoinNotThere", name := "type", desc := "(JI)I" } : Jvm.MethodName)) ∈ lw_all := lw_g (lw_at lw_m3 78 rfl) rfl
theorem q611 : (Jvm.Cond.methodLink "CoinNotThereLaw" (56 : Nat) ({ cls := "CoinNotThere", name := "routine", desc := "()I" } : Jvm.MethodName)) ∈ lw_all := lw_g (lw_at lw_m3 83 rfl) rfl
theorem q657 : (Jvm.Cond.methodLink "CoinNotThereLaw" (61 : Nat) ({ cls := "CoinNotThere", name := "house", desc := "()I" } : Jvm.MethodName)) ∈ lw_all := lw_g (lw_at lw_m3 129 rfl) rfl
theorem q701 : (Jvm.Cond.methodLink "CoinNotThereLaw" (69 : Nat) ({ cls := "CoinNotThere", name := "pull", desc := "(IIII)I" } : Jvm.MethodName)) ∈ lw_all := lw_g (lw_at lw_m3 173 rfl) rfl
theorem q730 : (Jvm.Cond.methodLink "CoinNotThereLaw" (73 : Nat) ({ cls := "CoinNotThere", name := "heed", desc := "(II)I" } : Jvm.MethodName)) ∈ lw_all := lw_g (lw_at lw_m3 202 rfl) rfl
theorem q734 : (Jvm.Cond.methodLink "CoinNotThereLaw" (77 : Nat) ({ cls := "CoinNotThere", name := "can", desc := "(II)I" } : Jvm.MethodName)) ∈ lw_all := lw_g (lw_at lw_m3 206 rfl) rfl
theorem q742 : (Jvm.Cond.methodLink "CoinNotThereLaw" (81 : Nat) ({ cls := "CoinNotThere", name := "odds", desc := "(IIII)I" } : Jvm.MethodName)) ∈ lw_all := lw_g (lw_at lw_m3 214 rfl) rfl
theorem q754 : (Jvm.Cond.methodLink "CoinNotThereLaw" (85 : Nat) ({ cls := "CoinNotThere", name := "sees", desc := "(II)I" } : Jvm.MethodName)) ∈ lw_all := lw_g (lw_at lw_m3 226 rfl) rfl
theorem q767 : (Jvm.Cond.methodLink "CoinNotThereLaw" (89 : Nat) ({ cls := "CoinNotThere", name := "quiet", desc := "(II)I" } : Jvm.MethodName)) ∈ lw_all := lw_g (lw_at lw_m3 239 rfl) rfl
theorem q771 : (Jvm.Cond.methodLink "CoinNotThereLaw" (93 : Nat) ({ cls := "CoinNotThere", name := "cover", desc := "(IIII)I" } : Jvm.MethodName)) ∈ lw_all := lw_g (lw_at lw_m4 3 rfl) rfl
theorem q775 : (Jvm.Cond.methodLink "CoinNotThereLaw" (97 : Nat) ({ cls := "CoinNotThere", name := "does", desc := "(II)I" } : Jvm.MethodName)) ∈ lw_all := lw_g (lw_at lw_m4 7 rfl) rfl
theorem q787 : (Jvm.Cond.methodLink "CoinNotThereLaw" (101 : Nat) ({ cls := "CoinNotThere", name := "bought", desc := "(II)I" } : Jvm.MethodName)) ∈ lw_all := lw_g (lw_at lw_m4 19 rfl) rfl
theorem q795 : (Jvm.Cond.methodLink "CoinNotThereLaw" (105 : Nat) ({ cls := "CoinNotThere", name := "stances", desc := "()I" } : Jvm.MethodName)) ∈ lw_all := lw_g (lw_at lw_m4 27 rfl) rfl
theorem q803 : (Jvm.Cond.methodLink "CoinNotThereLaw" (109 : Nat) ({ cls := "CoinNotThere", name := "often", desc := "(I)I" } : Jvm.MethodName)) ∈ lw_all := lw_g (lw_at lw_m4 35 rfl) rfl
theorem q808 : (Jvm.Cond.methodLink "CoinNotThereLaw" (113 : Nat) ({ cls := "CoinNotThere", name := "warning", desc := "()I" } : Jvm.MethodName)) ∈ lw_all := lw_g (lw_at lw_m4 40 rfl) rfl
theorem q828 : (Jvm.Cond.methodLink "CoinNotThereLaw" (117 : Nat) ({ cls := "CoinNotThere", name := "shown", desc := "(I)I" } : Jvm.MethodName)) ∈ lw_all := lw_g (lw_at lw_m4 60 rfl) rfl
theorem q836 : (Jvm.Cond.methodLink "CoinNotThereLaw" (121 : Nat) ({ cls := "CoinNotThere", name := "point", desc := "(II)I" } : Jvm.MethodName)) ∈ lw_all := lw_g (lw_at lw_m4 68 rfl) rfl
theorem q840 : (Jvm.Cond.methodLink "CoinNotThereLaw" (125 : Nat) ({ cls := "CoinNotThere", name := "fits", desc := "(I)I" } : Jvm.MethodName)) ∈ lw_all := lw_g (lw_at lw_m4 72 rfl) rfl
theorem q848 : (Jvm.Cond.methodLink "CoinNotThereLaw" (129 : Nat) ({ cls := "CoinNotThere", name := "apart", desc := "(IIII)I" } : Jvm.MethodName)) ∈ lw_all := lw_g (lw_at lw_m4 80 rfl) rfl
theorem q855 : (Jvm.Cond.methodLink "CoinNotThereLaw" (133 : Nat) ({ cls := "CoinNotThere", name := "clear", desc := "()I" } : Jvm.MethodName)) ∈ lw_all := lw_g (lw_at lw_m4 87 rfl) rfl
theorem q859 : (Jvm.Cond.methodLink "CoinNotThereLaw" (137 : Nat) ({ cls := "CoinNotThere", name := "image", desc := "()I" } : Jvm.MethodName)) ∈ lw_all := lw_g (lw_at lw_m4 91 rfl) rfl
theorem q889 : (Jvm.Cond.methodLink "CoinNotThereLaw" (141 : Nat) ({ cls := "CoinNotThere", name := "restore", desc := "()I" } : Jvm.MethodName)) ∈ lw_all := lw_g (lw_at lw_m4 121 rfl) rfl
theorem q893 : (Jvm.Cond.methodLink "CoinNotThereLaw" (145 : Nat) ({ cls := "CoinNotThere", name := "eyes", desc := "(IIIII)I" } : Jvm.MethodName)) ∈ lw_all := lw_g (lw_at lw_m4 125 rfl) rfl
theorem q919 : (Jvm.Cond.methodLink "CoinNotThereLaw" (150 : Nat) ({ cls := "CoinNotThere", name := "sheet", desc := "(III)I" } : Jvm.MethodName)) ∈ lw_all := lw_g (lw_at lw_m4 151 rfl) rfl
theorem q938 : (Jvm.Cond.methodLink "CoinNotThereLaw" (154 : Nat) ({ cls := "CoinNotThere", name := "drop", desc := "(I)I" } : Jvm.MethodName)) ∈ lw_all := lw_g (lw_at lw_m4 170 rfl) rfl
theorem q942 : (Jvm.Cond.methodLink "CoinNotThereLaw" (158 : Nat) ({ cls := "CoinNotThere", name := "item", desc := "(IIII)I" } : Jvm.MethodName)) ∈ lw_all := lw_g (lw_at lw_m4 174 rfl) rfl
theorem q993 : (Jvm.Cond.methodLink "CoinNotThereLaw" (162 : Nat) ({ cls := "CoinNotThere", name := "copy", desc := "(IIIII)I" } : Jvm.MethodName)) ∈ lw_all := lw_g (lw_at lw_m4 225 rfl) rfl
theorem q1012 : (Jvm.Cond.classLink "CoinNotThereLaw" (10 : Nat) "CoinNotThereModel") ∈ lw_all := lw_g (lw_at lw_m5 4 rfl) rfl
theorem q1014 : (Jvm.Cond.methodLink "CoinNotThereLaw" (12 : Nat) ({ cls := "CoinNotThereModel", name := "<init>", desc := "()V" } : Jvm.MethodName)) ∈ lw_all := lw_g (lw_at lw_m5 6 rfl) rfl
theorem q1103 : (Jvm.Cond.methodLink "CoinNotThereLaw" (17 : Nat) ({ cls := "CoinNotThereModel", name := "act", desc := "(IIII)I" } : Jvm.MethodName)) ∈ lw_all := lw_g (lw_at lw_m5 95 rfl) rfl
theorem q1119 : (Jvm.Cond.methodLink "CoinNotThereLaw" (22 : Nat) ({ cls := "CoinNotThereModel", name := "cue", desc := "(III)I" } : Jvm.MethodName)) ∈ lw_all := lw_g (lw_at lw_m5 111 rfl) rfl
theorem q1125 : (Jvm.Cond.methodLink "CoinNotThereLaw" (27 : Nat) ({ cls := "CoinNotThereModel", name := "stand", desc := "(I)I" } : Jvm.MethodName)) ∈ lw_all := lw_g (lw_at lw_m5 117 rfl) rfl
theorem q1129 : (Jvm.Cond.methodLink "CoinNotThereLaw" (32 : Nat) ({ cls := "CoinNotThereModel", name := "habit", desc := "(II)I" } : Jvm.MethodName)) ∈ lw_all := lw_g (lw_at lw_m5 121 rfl) rfl
theorem q1135 : (Jvm.Cond.methodLink "CoinNotThereLaw" (36 : Nat) ({ cls := "CoinNotThereModel", name := "watcher", desc := "(II)I" } : Jvm.MethodName)) ∈ lw_all := lw_g (lw_at lw_m5 127 rfl) rfl
theorem q1148 : (Jvm.Cond.methodLink "CoinNotThereLaw" (40 : Nat) ({ cls := "CoinNotThereModel", name := "doubt", desc := "(II)I" } : Jvm.MethodName)) ∈ lw_all := lw_g (lw_at lw_m5 140 rfl) rfl
theorem q1156 : (Jvm.Cond.methodLink "CoinNotThereLaw" (44 : Nat) ({ cls := "CoinNotThereModel", name := "told", desc := "(II)I" } : Jvm.MethodName)) ∈ lw_all := lw_g (lw_at lw_m5 148 rfl) rfl
theorem q1164 : (Jvm.Cond.methodLink "CoinNotThereLaw" (48 : Nat) ({ cls := "CoinNotThereModel", name := "leave", desc := "(I)I" } : Jvm.MethodName)) ∈ lw_all := lw_g (lw_at lw_m5 156 rfl) rfl
theorem q1168 : (Jvm.Cond.methodLink "CoinNotThereLaw" (55 : Nat) ({ cls := "CoinNotThereModel", name := "type", desc := "(JI)I" } : Jvm.MethodName)) ∈ lw_all := lw_g (lw_at lw_m5 160 rfl) rfl
theorem q1176 : (Jvm.Cond.methodLink "CoinNotThereLaw" (60 : Nat) ({ cls := "CoinNotThereModel", name := "routine", desc := "()I" } : Jvm.MethodName)) ∈ lw_all := lw_g (lw_at lw_m5 168 rfl) rfl
theorem q1214 : (Jvm.Cond.methodLink "CoinNotThereLaw" (64 : Nat) ({ cls := "CoinNotThereModel", name := "house", desc := "()I" } : Jvm.MethodName)) ∈ lw_all := lw_g (lw_at lw_m5 206 rfl) rfl
theorem q1218 : (Jvm.Cond.methodLink "CoinNotThereLaw" (68 : Nat) ({ cls := "CoinNotThereModel", name := "count", desc := "(I)I" } : Jvm.MethodName)) ∈ lw_all := lw_g (lw_at lw_m5 210 rfl) rfl
theorem q1223 : (Jvm.Cond.methodLink "CoinNotThereLaw" (72 : Nat) ({ cls := "CoinNotThereModel", name := "pull", desc := "(IIII)I" } : Jvm.MethodName)) ∈ lw_all := lw_g (lw_at lw_m5 215 rfl) rfl
theorem q1231 : (Jvm.Cond.methodLink "CoinNotThereLaw" (76 : Nat) ({ cls := "CoinNotThereModel", name := "heed", desc := "(II)I" } : Jvm.MethodName)) ∈ lw_all := lw_g (lw_at lw_m5 223 rfl) rfl
theorem q1235 : (Jvm.Cond.methodLink "CoinNotThereLaw" (80 : Nat) ({ cls := "CoinNotThereModel", name := "can", desc := "(II)I" } : Jvm.MethodName)) ∈ lw_all := lw_g (lw_at lw_m5 227 rfl) rfl
theorem q1243 : (Jvm.Cond.methodLink "CoinNotThereLaw" (84 : Nat) ({ cls := "CoinNotThereModel", name := "odds", desc := "(IIII)I" } : Jvm.MethodName)) ∈ lw_all := lw_g (lw_at lw_m5 235 rfl) rfl
theorem q1252 : (Jvm.Cond.methodLink "CoinNotThereLaw" (88 : Nat) ({ cls := "CoinNotThereModel", name := "sees", desc := "(II)I" } : Jvm.MethodName)) ∈ lw_all := lw_g (lw_at lw_m6 4 rfl) rfl
theorem q1265 : (Jvm.Cond.methodLink "CoinNotThereLaw" (92 : Nat) ({ cls := "CoinNotThereModel", name := "quiet", desc := "(II)I" } : Jvm.MethodName)) ∈ lw_all := lw_g (lw_at lw_m6 17 rfl) rfl
theorem q1269 : (Jvm.Cond.methodLink "CoinNotThereLaw" (96 : Nat) ({ cls := "CoinNotThereModel", name := "cover", desc := "(IIII)I" } : Jvm.MethodName)) ∈ lw_all := lw_g (lw_at lw_m6 21 rfl) rfl
theorem q1274 : (Jvm.Cond.methodLink "CoinNotThereLaw" (100 : Nat) ({ cls := "CoinNotThereModel", name := "does", desc := "(II)I" } : Jvm.MethodName)) ∈ lw_all := lw_g (lw_at lw_m6 26 rfl) rfl
theorem q1283 : (Jvm.Cond.methodLink "CoinNotThereLaw" (104 : Nat) ({ cls := "CoinNotThereModel", name := "bought", desc := "(II)I" } : Jvm.MethodName)) ∈ lw_all := lw_g (lw_at lw_m6 35 rfl) rfl
theorem q1288 : (Jvm.Cond.methodLink "CoinNotThereLaw" (108 : Nat) ({ cls := "CoinNotThereModel", name := "stances", desc := "()I" } : Jvm.MethodName)) ∈ lw_all := lw_g (lw_at lw_m6 40 rfl) rfl
theorem q1292 : (Jvm.Cond.methodLink "CoinNotThereLaw" (112 : Nat) ({ cls := "CoinNotThereModel", name := "often", desc := "(I)I" } : Jvm.MethodName)) ∈ lw_all := lw_g (lw_at lw_m6 44 rfl) rfl
theorem q1297 : (Jvm.Cond.methodLink "CoinNotThereLaw" (116 : Nat) ({ cls := "CoinNotThereModel", name := "warning", desc := "()I" } : Jvm.MethodName)) ∈ lw_all := lw_g (lw_at lw_m6 49 rfl) rfl
theorem q1301 : (Jvm.Cond.methodLink "CoinNotThereLaw" (120 : Nat) ({ cls := "CoinNotThereModel", name := "shown", desc := "(I)I" } : Jvm.MethodName)) ∈ lw_all := lw_g (lw_at lw_m6 53 rfl) rfl
theorem q1309 : (Jvm.Cond.methodLink "CoinNotThereLaw" (124 : Nat) ({ cls := "CoinNotThereModel", name := "point", desc := "(II)I" } : Jvm.MethodName)) ∈ lw_all := lw_g (lw_at lw_m6 61 rfl) rfl
theorem q1317 : (Jvm.Cond.methodLink "CoinNotThereLaw" (128 : Nat) ({ cls := "CoinNotThereModel", name := "fits", desc := "(I)I" } : Jvm.MethodName)) ∈ lw_all := lw_g (lw_at lw_m6 69 rfl) rfl
theorem q1321 : (Jvm.Cond.methodLink "CoinNotThereLaw" (132 : Nat) ({ cls := "CoinNotThereModel", name := "apart", desc := "(IIII)I" } : Jvm.MethodName)) ∈ lw_all := lw_g (lw_at lw_m6 73 rfl) rfl
theorem q1328 : (Jvm.Cond.methodLink "CoinNotThereLaw" (136 : Nat) ({ cls := "CoinNotThereModel", name := "clear", desc := "()I" } : Jvm.MethodName)) ∈ lw_all := lw_g (lw_at lw_m6 80 rfl) rfl
theorem q1332 : (Jvm.Cond.methodLink "CoinNotThereLaw" (140 : Nat) ({ cls := "CoinNotThereModel", name := "image", desc := "()I" } : Jvm.MethodName)) ∈ lw_all := lw_g (lw_at lw_m6 84 rfl) rfl
theorem q1339 : (Jvm.Cond.methodLink "CoinNotThereLaw" (144 : Nat) ({ cls := "CoinNotThereModel", name := "restore", desc := "()I" } : Jvm.MethodName)) ∈ lw_all := lw_g (lw_at lw_m6 91 rfl) rfl
theorem q1346 : (Jvm.Cond.methodLink "CoinNotThereLaw" (149 : Nat) ({ cls := "CoinNotThereModel", name := "eyes", desc := "(IIIII)I" } : Jvm.MethodName)) ∈ lw_all := lw_g (lw_at lw_m6 98 rfl) rfl
theorem q1361 : (Jvm.Cond.methodLink "CoinNotThereLaw" (153 : Nat) ({ cls := "CoinNotThereModel", name := "sheet", desc := "(III)I" } : Jvm.MethodName)) ∈ lw_all := lw_g (lw_at lw_m6 113 rfl) rfl
theorem q1365 : (Jvm.Cond.methodLink "CoinNotThereLaw" (157 : Nat) ({ cls := "CoinNotThereModel", name := "drop", desc := "(I)I" } : Jvm.MethodName)) ∈ lw_all := lw_g (lw_at lw_m6 117 rfl) rfl
theorem q1369 : (Jvm.Cond.methodLink "CoinNotThereLaw" (161 : Nat) ({ cls := "CoinNotThereModel", name := "item", desc := "(IIII)I" } : Jvm.MethodName)) ∈ lw_all := lw_g (lw_at lw_m6 121 rfl) rfl
theorem q1373 : (Jvm.Cond.methodLink "CoinNotThereLaw" (165 : Nat) ({ cls := "CoinNotThereModel", name := "copy", desc := "(IIIII)I" } : Jvm.MethodName)) ∈ lw_all := lw_g (lw_at lw_m6 125 rfl) rfl
theorem q1377 : (Jvm.Cond.constantLong "CoinNotThereLaw" (49 : Nat) (4294967295 : Int64)) ∈ lw_all := lw_g (lw_at lw_m6 129 rfl) rfl
theorem q1407 : (Jvm.Cond.castable "[B" "java/lang/Object") ∈ lw_tbl := lw_at lw_m6 159 rfl
set_option maxRecDepth 100000
theorem q1406 : (Jvm.Cond.castable "[I" "java/lang/Object") ∈ lw_tbl := lw_at lw_m6 158 rfl
set_option maxRecDepth 100000
theorem q1405 : (Jvm.Cond.castable "[LCoinNotThere$Beat;" "java/lang/Object") ∈ lw_tbl := lw_at lw_m6 157 rfl
set_option maxRecDepth 100000
theorem q1408 : (Jvm.Cond.castable "[LCoinNotThere$Sheet;" "java/lang/Object") ∈ lw_tbl := lw_at lw_m6 160 rfl
set_option maxRecDepth 100000
theorem q1402 : (Jvm.Cond.sameMethod "[Ljava/lang/Object;" "java/lang/Object" "getClass" "()Ljava/lang/Class;") ∈ lw_all := lw_g (lw_at lw_m6 154 rfl) rfl
set_option maxRecDepth 100000
theorem q1403 : (Jvm.Cond.selects "[Ljava/lang/Object;" ({ cls := "java/lang/Object", name := "getClass", desc := "()Ljava/lang/Class;" } : Jvm.MethodName) ({ cls := "java/lang/Object", name := "getClass", desc := "()Ljava/lang/Class;" } : Jvm.MethodName)) ∈ lw_all := lw_g (lw_at lw_m6 155 rfl) rfl
theorem q1409 : (Jvm.Cond.castable "[Ljava/lang/Object;" "java/lang/Object") ∈ lw_tbl := lw_at lw_m6 161 rfl
theorem q1410 : (Jvm.Cond.castable "[S" "java/lang/Object") ∈ lw_tbl := lw_at lw_m6 162 rfl
set_option maxRecDepth 100000
theorem q69 : (Jvm.Cond.initialized "java/lang/System") ∈ lw_all := lw_g (lw_at lw_m1 21 rfl) rfl
set_option maxRecDepth 100000
theorem q505 : (Jvm.Cond.static ({ cls := "java/lang/System", name := "arraycopy", desc := "(Ljava/lang/Object;ILjava/lang/Object;II)V" } : Jvm.MethodName)) ∈ lw_all := lw_g (lw_at lw_m2 217 rfl) rfl
theorem q506 : (Jvm.Cond.native ({ cls := "java/lang/System", name := "arraycopy", desc := "(Ljava/lang/Object;ILjava/lang/Object;II)V" } : Jvm.MethodName)) ∈ lw_all := lw_g (lw_at lw_m2 218 rfl) rfl
theorem q693 : (Jvm.Cond.interfaceMethod "java/util/Collection" "java/util/Collection" "toArray" "()[Ljava/lang/Object;") ∈ lw_tbl := lw_at lw_m3 165 rfl
set_option maxRecDepth 100000
theorem q694 : (Jvm.Cond.declares ({ cls := "java/util/Collection", name := "toArray", desc := "()[Ljava/lang/Object;" } : Jvm.MethodName)) ∈ lw_tbl := lw_at lw_m3 166 rfl
theorem q383 : (Jvm.Cond.interfaceMethod "java/util/List" "java/util/List" "size" "()I") ∈ lw_tbl := lw_at lw_m2 95 rfl
set_option maxRecDepth 100000
theorem q384 : (Jvm.Cond.declares ({ cls := "java/util/List", name := "size", desc := "()I" } : Jvm.MethodName)) ∈ lw_tbl := lw_at lw_m2 96 rfl
theorem q393 : (Jvm.Cond.interfaceMethod "java/util/List" "java/util/List" "get" "(I)Ljava/lang/Object;") ∈ lw_tbl := lw_at lw_m2 105 rfl
theorem q394 : (Jvm.Cond.declares ({ cls := "java/util/List", name := "get", desc := "(I)Ljava/lang/Object;" } : Jvm.MethodName)) ∈ lw_tbl := lw_at lw_m2 106 rfl
theorem q443 : (Jvm.Cond.interfaceMethod "java/util/List" "java/util/List" "add" "(Ljava/lang/Object;)Z") ∈ lw_tbl := lw_at lw_m2 155 rfl
theorem q444 : (Jvm.Cond.declares ({ cls := "java/util/List", name := "add", desc := "(Ljava/lang/Object;)Z" } : Jvm.MethodName)) ∈ lw_tbl := lw_at lw_m2 156 rfl
theorem q590 : (Jvm.Cond.interfaceMethod "java/util/List" "java/util/List" "remove" "(I)Ljava/lang/Object;") ∈ lw_tbl := lw_at lw_m3 62 rfl
theorem q591 : (Jvm.Cond.declares ({ cls := "java/util/List", name := "remove", desc := "(I)Ljava/lang/Object;" } : Jvm.MethodName)) ∈ lw_tbl := lw_at lw_m3 63 rfl
theorem q667 : (Jvm.Cond.interfaceMethod "java/util/List" "java/util/List" "clear" "()V") ∈ lw_tbl := lw_at lw_m3 139 rfl
theorem q668 : (Jvm.Cond.declares ({ cls := "java/util/List", name := "clear", desc := "()V" } : Jvm.MethodName)) ∈ lw_tbl := lw_at lw_m3 140 rfl
theorem q684 : (Jvm.Cond.interfaceMethod "java/util/List" "java/util/List" "addAll" "(Ljava/util/Collection;)Z") ∈ lw_tbl := lw_at lw_m3 156 rfl
theorem q685 : (Jvm.Cond.declares ({ cls := "java/util/List", name := "addAll", desc := "(Ljava/util/Collection;)Z" } : Jvm.MethodName)) ∈ lw_tbl := lw_at lw_m3 157 rfl
theorem q93 : (Jvm.Cond.arrayOver (Jvm.ClassFile.FieldType.object "CoinNotThere$Beat")) ∈ lw_tbl := lw_at lw_m1 45 rfl
set_option maxRecDepth 100000
theorem q126 : (Jvm.Cond.arrayClass Jvm.ClassFile.FieldType.int) ∈ lw_all := lw_g (lw_at lw_m1 78 rfl) rfl
theorem q265 : (Jvm.Cond.arrayClass Jvm.ClassFile.FieldType.byte) ∈ lw_all := lw_g (lw_at lw_m1 217 rfl) rfl
theorem q267 : (Jvm.Cond.arrayOver (Jvm.ClassFile.FieldType.object "CoinNotThere$Sheet")) ∈ lw_tbl := lw_at lw_m1 219 rfl
theorem q499 : (Jvm.Cond.arrayOver (Jvm.ClassFile.FieldType.object "java/lang/Object")) ∈ lw_tbl := lw_at lw_m2 211 rfl
theorem q937 : (Jvm.Cond.arrayClass Jvm.ClassFile.FieldType.short) ∈ lw_all := lw_g (lw_at lw_m4 169 rfl) rfl
