/-! java/util/AbstractCollection -/
set_option maxRecDepth 100000
def RJ0 : String := "java/util/AbstractCollection"
abbrev cJ0_init : ByteArray := prog_47_method_1_code
def yJ0_init : MethodName := ⟨RJ0, "<init>", "()V"⟩
theorem dJ0_init_0 : decode cJ0_init 0 = .ok (.aload_n 0, 1) := by decide +kernel
theorem dJ0_init_1 : decode cJ0_init 1 = .ok (.invokespecial 1, 3) := by decide +kernel
theorem dJ0_init_4 : decode cJ0_init 4 = .ok (.return_, 1) := by decide +kernel
theorem q46 : (Jvm.Cond.initialized "java/util/AbstractCollection") ∈ lw_all := lw_g (lw_at lw_m1 2 rfl) rfl
theorem q128 : (Jvm.Cond.instanceMethod ({ cls := "java/util/AbstractCollection", name := "<init>", desc := "()V" } : Jvm.MethodName)) ∈ lw_all := lw_g (lw_at lw_m1 84 rfl) rfl
theorem q129 : (Jvm.Cond.code ({ cls := "java/util/AbstractCollection", name := "<init>", desc := "()V" } : Jvm.MethodName) prog_47_method_1_code (1 : Nat) (Option.none : Option Jvm.ClassFile.FieldType)) ∈ lw_all := lw_g (lw_at lw_m1 85 rfl) rfl
theorem q130 : (Jvm.Cond.methodLink "java/util/AbstractCollection" (1 : Nat) ({ cls := "java/lang/Object", name := "<init>", desc := "()V" } : Jvm.MethodName)) ∈ lw_all := lw_g (lw_at lw_m1 86 rfl) rfl
/-! java/util/AbstractList -/
set_option maxRecDepth 100000
def RJ1 : String := "java/util/AbstractList"
abbrev cJ1_init : ByteArray := prog_48_method_1_code
def yJ1_init : MethodName := ⟨RJ1, "<init>", "()V"⟩
def dkwJ1_init_0 : List UInt8 := [42, 183, 0, 1, 42, 3, 181, 0, 7, 177]
abbrev dktJ1_init_0 : List UInt8 := dkwJ1_init_0 ++ []
theorem dksJ1_init_0 : cJ1_init.data.toList.drop 0 = dktJ1_init_0 := by decide +kernel
theorem dJ1_init_0 : decode cJ1_init 0 = .ok (.aload_n 0, 1) := dk_42 (dk_at dksJ1_init_0 0 rfl rfl)
theorem dJ1_init_1 : decode cJ1_init 1 = .ok (.invokespecial 1, 3) := dk_183 0 1 (dk_at dksJ1_init_0 1 rfl rfl)
theorem dJ1_init_4 : decode cJ1_init 4 = .ok (.aload_n 0, 1) := dk_42 (dk_at dksJ1_init_0 4 rfl rfl)
theorem dJ1_init_5 : decode cJ1_init 5 = .ok (.iconst 0, 1) := dk_3 (dk_at dksJ1_init_0 5 rfl rfl)
theorem dJ1_init_6 : decode cJ1_init 6 = .ok (.putfield 7, 3) := dk_181 0 7 (dk_at dksJ1_init_0 6 rfl rfl)
theorem dJ1_init_9 : decode cJ1_init 9 = .ok (.return_, 1) := dk_177 (dk_at dksJ1_init_0 9 rfl rfl)
theorem q47 : (Jvm.Cond.initialized "java/util/AbstractList") ∈ lw_all := lw_g (lw_at lw_m1 3 rfl) rfl
theorem q125 : (Jvm.Cond.instanceMethod ({ cls := "java/util/AbstractList", name := "<init>", desc := "()V" } : Jvm.MethodName)) ∈ lw_all := lw_g (lw_at lw_m1 81 rfl) rfl
theorem q126 : (Jvm.Cond.code ({ cls := "java/util/AbstractList", name := "<init>", desc := "()V" } : Jvm.MethodName) prog_48_method_1_code (1 : Nat) (Option.none : Option Jvm.ClassFile.FieldType)) ∈ lw_all := lw_g (lw_at lw_m1 82 rfl) rfl
theorem q127 : (Jvm.Cond.methodLink "java/util/AbstractList" (1 : Nat) ({ cls := "java/util/AbstractCollection", name := "<init>", desc := "()V" } : Jvm.MethodName)) ∈ lw_all := lw_g (lw_at lw_m1 83 rfl) rfl
theorem q137 : (Jvm.Cond.fieldLink "java/util/AbstractList" (7 : Nat) "java/util/AbstractList" "modCount" "I") ∈ lw_all := lw_g (lw_at lw_m1 93 rfl) rfl
theorem q146 : (Jvm.Cond.soleField "java/util/AbstractList" "modCount") ∈ lw_all := lw_g (lw_at lw_m1 102 rfl) rfl
/-! java/util/ArrayList -/
set_option maxRecDepth 100000
def RJ2 : String := "java/util/ArrayList"
def TJ2 : u_T := fun k => match k with
  | 0 => ("java/util/AbstractList", "modCount", "I", false)
  | 1 => ("java/util/ArrayList", "elementData", "[Ljava/lang/Object;", false)
  | _ => ("java/util/ArrayList", "size", "I", false)
def tyJ2 : Nat → FieldType := fun k => match k with
  | 0 => .int
  | 1 => .array (.object "java/lang/Object")
  | _ => .int
abbrev wsJ20 : List Cond := u_ws RJ2 TJ2 3
theorem nmJ2 : ∀ a, a < 3 → ∀ b, b < 3 → a ≠ b → (TJ2 a).2.1 ≠ (TJ2 b).2.1 := by decide +kernel
theorem tyJ2_ok : ∀ k, k < 3 → parseFieldDescriptor (TJ2 k).2.2.1 = some (tyJ2 k) := by decide +kernel
abbrev cJ2_size : ByteArray := prog_50_method_8_code
def yJ2_size : MethodName := ⟨RJ2, "size", "()I"⟩
theorem dJ2_size_0 : decode cJ2_size 0 = .ok (.aload_n 0, 1) := by decide +kernel
theorem dJ2_size_1 : decode cJ2_size 1 = .ok (.getfield 48, 3) := by decide +kernel
theorem dJ2_size_4 : decode cJ2_size 4 = .ok (.ireturn, 1) := by decide +kernel
abbrev cJ2_init : ByteArray := prog_50_method_2_code
def yJ2_init : MethodName := ⟨RJ2, "<init>", "()V"⟩
def dkwJ2_init_0 : List UInt8 := [42, 183, 0, 1, 42, 178, 0, 39, 181, 0, 9, 177]
abbrev dktJ2_init_0 : List UInt8 := dkwJ2_init_0 ++ []
theorem dksJ2_init_0 : cJ2_init.data.toList.drop 0 = dktJ2_init_0 := by decide +kernel
theorem dJ2_init_0 : decode cJ2_init 0 = .ok (.aload_n 0, 1) := dk_42 (dk_at dksJ2_init_0 0 rfl rfl)
theorem dJ2_init_1 : decode cJ2_init 1 = .ok (.invokespecial 1, 3) := dk_183 0 1 (dk_at dksJ2_init_0 1 rfl rfl)
theorem dJ2_init_4 : decode cJ2_init 4 = .ok (.aload_n 0, 1) := dk_42 (dk_at dksJ2_init_0 4 rfl rfl)
theorem dJ2_init_5 : decode cJ2_init 5 = .ok (.getstatic 39, 3) := dk_178 0 39 (dk_at dksJ2_init_0 5 rfl rfl)
theorem dJ2_init_8 : decode cJ2_init 8 = .ok (.putfield 9, 3) := dk_181 0 9 (dk_at dksJ2_init_0 8 rfl rfl)
theorem dJ2_init_11 : decode cJ2_init 11 = .ok (.return_, 1) := dk_177 (dk_at dksJ2_init_0 11 rfl rfl)
abbrev cJ2_get : ByteArray := prog_50_method_20_code
def yJ2_get : MethodName := ⟨RJ2, "get", "(I)Ljava/lang/Object;"⟩
def dkwJ2_get_0 : List UInt8 := [27, 42, 180, 0, 48, 184, 0, 118, 87, 42, 27, 182, 0, 123, 176]
abbrev dktJ2_get_0 : List UInt8 := dkwJ2_get_0 ++ []
theorem dksJ2_get_0 : cJ2_get.data.toList.drop 0 = dktJ2_get_0 := by decide +kernel
theorem dJ2_get_0 : decode cJ2_get 0 = .ok (.iload_n 1, 1) := dk_27 (dk_at dksJ2_get_0 0 rfl rfl)
theorem dJ2_get_1 : decode cJ2_get 1 = .ok (.aload_n 0, 1) := dk_42 (dk_at dksJ2_get_0 1 rfl rfl)
theorem dJ2_get_2 : decode cJ2_get 2 = .ok (.getfield 48, 3) := dk_180 0 48 (dk_at dksJ2_get_0 2 rfl rfl)
theorem dJ2_get_5 : decode cJ2_get 5 = .ok (.invokestatic 118, 3) := dk_184 0 118 (dk_at dksJ2_get_0 5 rfl rfl)
theorem dJ2_get_8 : decode cJ2_get 8 = .ok (.pop, 1) := dk_87 (dk_at dksJ2_get_0 8 rfl rfl)
theorem dJ2_get_9 : decode cJ2_get 9 = .ok (.aload_n 0, 1) := dk_42 (dk_at dksJ2_get_0 9 rfl rfl)
theorem dJ2_get_10 : decode cJ2_get 10 = .ok (.iload_n 1, 1) := dk_27 (dk_at dksJ2_get_0 10 rfl rfl)
theorem dJ2_get_11 : decode cJ2_get 11 = .ok (.invokevirtual 123, 3) := dk_182 0 123 (dk_at dksJ2_get_0 11 rfl rfl)
theorem dJ2_get_14 : decode cJ2_get 14 = .ok (.areturn, 1) := dk_176 (dk_at dksJ2_get_0 14 rfl rfl)
abbrev cJ2_elementData : ByteArray := prog_50_method_18_code
def yJ2_elementData : MethodName := ⟨RJ2, "elementData", "(I)Ljava/lang/Object;"⟩
def dkwJ2_elementData_0 : List UInt8 := [42, 180, 0, 9, 27, 50, 176]
abbrev dktJ2_elementData_0 : List UInt8 := dkwJ2_elementData_0 ++ []
theorem dksJ2_elementData_0 : cJ2_elementData.data.toList.drop 0 = dktJ2_elementData_0 := by decide +kernel
theorem dJ2_elementData_0 : decode cJ2_elementData 0 = .ok (.aload_n 0, 1) := dk_42 (dk_at dksJ2_elementData_0 0 rfl rfl)
theorem dJ2_elementData_1 : decode cJ2_elementData 1 = .ok (.getfield 9, 3) := dk_180 0 9 (dk_at dksJ2_elementData_0 1 rfl rfl)
theorem dJ2_elementData_4 : decode cJ2_elementData 4 = .ok (.iload_n 1, 1) := dk_27 (dk_at dksJ2_elementData_0 4 rfl rfl)
theorem dJ2_elementData_5 : decode cJ2_elementData 5 = .ok (.aaload, 1) := dk_50 (dk_at dksJ2_elementData_0 5 rfl rfl)
theorem dJ2_elementData_6 : decode cJ2_elementData 6 = .ok (.areturn, 1) := dk_176 (dk_at dksJ2_elementData_0 6 rfl rfl)
abbrev cJ2_add : ByteArray := prog_50_method_25_code
def yJ2_add : MethodName := ⟨RJ2, "add", "(Ljava/lang/Object;)Z"⟩
def dkwJ2_add_1 : List UInt8 := [172]
abbrev dktJ2_add_1 : List UInt8 := dkwJ2_add_1 ++ []
def dkwJ2_add_0 : List UInt8 := [42, 89, 180, 0, 63, 4, 96, 181, 0, 63, 42, 43, 42, 180, 0, 9, 42, 180, 0, 48, 182, 0, 131, 4]
abbrev dktJ2_add_0 : List UInt8 := dkwJ2_add_0 ++ dktJ2_add_1
theorem dksJ2_add_0 : cJ2_add.data.toList.drop 0 = dktJ2_add_0 := by decide +kernel
theorem dksJ2_add_1 : cJ2_add.data.toList.drop 24 = dktJ2_add_1 := dk_seg dksJ2_add_0 24 rfl rfl
theorem dJ2_add_0 : decode cJ2_add 0 = .ok (.aload_n 0, 1) := dk_42 (dk_at dksJ2_add_0 0 rfl rfl)
theorem dJ2_add_1 : decode cJ2_add 1 = .ok (.dup, 1) := dk_89 (dk_at dksJ2_add_0 1 rfl rfl)
theorem dJ2_add_2 : decode cJ2_add 2 = .ok (.getfield 63, 3) := dk_180 0 63 (dk_at dksJ2_add_0 2 rfl rfl)
theorem dJ2_add_5 : decode cJ2_add 5 = .ok (.iconst 1, 1) := dk_4 (dk_at dksJ2_add_0 5 rfl rfl)
theorem dJ2_add_6 : decode cJ2_add 6 = .ok (.iadd, 1) := dk_96 (dk_at dksJ2_add_0 6 rfl rfl)
theorem dJ2_add_7 : decode cJ2_add 7 = .ok (.putfield 63, 3) := dk_181 0 63 (dk_at dksJ2_add_0 7 rfl rfl)
theorem dJ2_add_10 : decode cJ2_add 10 = .ok (.aload_n 0, 1) := dk_42 (dk_at dksJ2_add_0 10 rfl rfl)
theorem dJ2_add_11 : decode cJ2_add 11 = .ok (.aload_n 1, 1) := dk_43 (dk_at dksJ2_add_0 11 rfl rfl)
theorem dJ2_add_12 : decode cJ2_add 12 = .ok (.aload_n 0, 1) := dk_42 (dk_at dksJ2_add_0 12 rfl rfl)
theorem dJ2_add_13 : decode cJ2_add 13 = .ok (.getfield 9, 3) := dk_180 0 9 (dk_at dksJ2_add_0 13 rfl rfl)
theorem dJ2_add_16 : decode cJ2_add 16 = .ok (.aload_n 0, 1) := dk_42 (dk_at dksJ2_add_0 16 rfl rfl)
theorem dJ2_add_17 : decode cJ2_add 17 = .ok (.getfield 48, 3) := dk_180 0 48 (dk_at dksJ2_add_0 17 rfl rfl)
theorem dJ2_add_20 : decode cJ2_add 20 = .ok (.invokevirtual 131, 3) := dk_182 0 131 (dk_at dksJ2_add_0 20 rfl rfl)
theorem dJ2_add_23 : decode cJ2_add 23 = .ok (.iconst 1, 1) := dk_4 (dk_at dksJ2_add_0 23 rfl rfl)
theorem dJ2_add_24 : decode cJ2_add 24 = .ok (.ireturn, 1) := dk_172 (dk_at dksJ2_add_1 0 rfl rfl)
abbrev cJ2_add_2 : ByteArray := prog_50_method_24_code
def yJ2_add_2 : MethodName := ⟨RJ2, "add", "(Ljava/lang/Object;[Ljava/lang/Object;I)V"⟩
def dkwJ2_add_2_0 : List UInt8 := [29, 44, 190, 160, 0, 8, 42, 182, 0, 129, 77, 44, 29, 43, 83, 42, 29, 4, 96, 181, 0, 48, 177]
abbrev dktJ2_add_2_0 : List UInt8 := dkwJ2_add_2_0 ++ []
theorem dksJ2_add_2_0 : cJ2_add_2.data.toList.drop 0 = dktJ2_add_2_0 := by decide +kernel
theorem dJ2_add_2_0 : decode cJ2_add_2 0 = .ok (.iload_n 3, 1) := dk_29 (dk_at dksJ2_add_2_0 0 rfl rfl)
theorem dJ2_add_2_1 : decode cJ2_add_2 1 = .ok (.aload_n 2, 1) := dk_44 (dk_at dksJ2_add_2_0 1 rfl rfl)
theorem dJ2_add_2_2 : decode cJ2_add_2 2 = .ok (.arraylength, 1) := dk_190 (dk_at dksJ2_add_2_0 2 rfl rfl)
theorem dJ2_add_2_3 : decode cJ2_add_2 3 = .ok (.if_icmp .ne 8, 3) := dk_160 0 8 (dk_at dksJ2_add_2_0 3 rfl rfl)
theorem dJ2_add_2_6 : decode cJ2_add_2 6 = .ok (.aload_n 0, 1) := dk_42 (dk_at dksJ2_add_2_0 6 rfl rfl)
theorem dJ2_add_2_7 : decode cJ2_add_2 7 = .ok (.invokevirtual 129, 3) := dk_182 0 129 (dk_at dksJ2_add_2_0 7 rfl rfl)
theorem dJ2_add_2_10 : decode cJ2_add_2 10 = .ok (.astore_n 2, 1) := dk_77 (dk_at dksJ2_add_2_0 10 rfl rfl)
theorem dJ2_add_2_11 : decode cJ2_add_2 11 = .ok (.aload_n 2, 1) := dk_44 (dk_at dksJ2_add_2_0 11 rfl rfl)
theorem dJ2_add_2_12 : decode cJ2_add_2 12 = .ok (.iload_n 3, 1) := dk_29 (dk_at dksJ2_add_2_0 12 rfl rfl)
theorem dJ2_add_2_13 : decode cJ2_add_2 13 = .ok (.aload_n 1, 1) := dk_43 (dk_at dksJ2_add_2_0 13 rfl rfl)
theorem dJ2_add_2_14 : decode cJ2_add_2 14 = .ok (.aastore, 1) := dk_83 (dk_at dksJ2_add_2_0 14 rfl rfl)
theorem dJ2_add_2_15 : decode cJ2_add_2 15 = .ok (.aload_n 0, 1) := dk_42 (dk_at dksJ2_add_2_0 15 rfl rfl)
theorem dJ2_add_2_16 : decode cJ2_add_2 16 = .ok (.iload_n 3, 1) := dk_29 (dk_at dksJ2_add_2_0 16 rfl rfl)
theorem dJ2_add_2_17 : decode cJ2_add_2 17 = .ok (.iconst 1, 1) := dk_4 (dk_at dksJ2_add_2_0 17 rfl rfl)
theorem dJ2_add_2_18 : decode cJ2_add_2 18 = .ok (.iadd, 1) := dk_96 (dk_at dksJ2_add_2_0 18 rfl rfl)
theorem dJ2_add_2_19 : decode cJ2_add_2 19 = .ok (.putfield 48, 3) := dk_181 0 48 (dk_at dksJ2_add_2_0 19 rfl rfl)
theorem dJ2_add_2_22 : decode cJ2_add_2 22 = .ok (.return_, 1) := dk_177 (dk_at dksJ2_add_2_0 22 rfl rfl)
abbrev cJ2_grow : ByteArray := prog_50_method_7_code
def yJ2_grow : MethodName := ⟨RJ2, "grow", "()[Ljava/lang/Object;"⟩
def dkwJ2_grow_0 : List UInt8 := [42, 42, 180, 0, 48, 4, 96, 182, 0, 69, 176]
abbrev dktJ2_grow_0 : List UInt8 := dkwJ2_grow_0 ++ []
theorem dksJ2_grow_0 : cJ2_grow.data.toList.drop 0 = dktJ2_grow_0 := by decide +kernel
theorem dJ2_grow_0 : decode cJ2_grow 0 = .ok (.aload_n 0, 1) := dk_42 (dk_at dksJ2_grow_0 0 rfl rfl)
theorem dJ2_grow_1 : decode cJ2_grow 1 = .ok (.aload_n 0, 1) := dk_42 (dk_at dksJ2_grow_0 1 rfl rfl)
theorem dJ2_grow_2 : decode cJ2_grow 2 = .ok (.getfield 48, 3) := dk_180 0 48 (dk_at dksJ2_grow_0 2 rfl rfl)
theorem dJ2_grow_5 : decode cJ2_grow 5 = .ok (.iconst 1, 1) := dk_4 (dk_at dksJ2_grow_0 5 rfl rfl)
theorem dJ2_grow_6 : decode cJ2_grow 6 = .ok (.iadd, 1) := dk_96 (dk_at dksJ2_grow_0 6 rfl rfl)
theorem dJ2_grow_7 : decode cJ2_grow 7 = .ok (.invokevirtual 69, 3) := dk_182 0 69 (dk_at dksJ2_grow_0 7 rfl rfl)
theorem dJ2_grow_10 : decode cJ2_grow 10 = .ok (.areturn, 1) := dk_176 (dk_at dksJ2_grow_0 10 rfl rfl)
abbrev cJ2_grow_2 : ByteArray := prog_50_method_6_code
def yJ2_grow_2 : MethodName := ⟨RJ2, "grow", "(I)[Ljava/lang/Object;"⟩
def dkwJ2_grow_2_2 : List UInt8 := [27, 184, 0, 79, 189, 0, 7, 90, 181, 0, 9, 176]
abbrev dktJ2_grow_2_2 : List UInt8 := dkwJ2_grow_2_2 ++ []
def dkwJ2_grow_2_1 : List UInt8 := [28, 4, 122, 184, 0, 73, 62, 42, 42, 180, 0, 9, 29, 184, 0, 66, 90, 181, 0, 9, 176, 42, 16, 10]
abbrev dktJ2_grow_2_1 : List UInt8 := dkwJ2_grow_2_1 ++ dktJ2_grow_2_2
def dkwJ2_grow_2_0 : List UInt8 := [42, 180, 0, 9, 190, 61, 28, 157, 0, 13, 42, 180, 0, 9, 178, 0, 39, 165, 0, 28, 28, 27, 28, 100]
abbrev dktJ2_grow_2_0 : List UInt8 := dkwJ2_grow_2_0 ++ dktJ2_grow_2_1
theorem dksJ2_grow_2_0 : cJ2_grow_2.data.toList.drop 0 = dktJ2_grow_2_0 := by decide +kernel
theorem dksJ2_grow_2_1 : cJ2_grow_2.data.toList.drop 24 = dktJ2_grow_2_1 := dk_seg dksJ2_grow_2_0 24 rfl rfl
theorem dksJ2_grow_2_2 : cJ2_grow_2.data.toList.drop 48 = dktJ2_grow_2_2 := dk_seg dksJ2_grow_2_1 24 rfl rfl
theorem dJ2_grow_2_0 : decode cJ2_grow_2 0 = .ok (.aload_n 0, 1) := dk_42 (dk_at dksJ2_grow_2_0 0 rfl rfl)
theorem dJ2_grow_2_1 : decode cJ2_grow_2 1 = .ok (.getfield 9, 3) := dk_180 0 9 (dk_at dksJ2_grow_2_0 1 rfl rfl)
theorem dJ2_grow_2_4 : decode cJ2_grow_2 4 = .ok (.arraylength, 1) := dk_190 (dk_at dksJ2_grow_2_0 4 rfl rfl)
theorem dJ2_grow_2_5 : decode cJ2_grow_2 5 = .ok (.istore_n 2, 1) := dk_61 (dk_at dksJ2_grow_2_0 5 rfl rfl)
theorem dJ2_grow_2_6 : decode cJ2_grow_2 6 = .ok (.iload_n 2, 1) := dk_28 (dk_at dksJ2_grow_2_0 6 rfl rfl)
theorem dJ2_grow_2_7 : decode cJ2_grow_2 7 = .ok (.ifCond .gt 13, 3) := dk_157 0 13 (dk_at dksJ2_grow_2_0 7 rfl rfl)
theorem dJ2_grow_2_10 : decode cJ2_grow_2 10 = .ok (.aload_n 0, 1) := dk_42 (dk_at dksJ2_grow_2_0 10 rfl rfl)
theorem dJ2_grow_2_11 : decode cJ2_grow_2 11 = .ok (.getfield 9, 3) := dk_180 0 9 (dk_at dksJ2_grow_2_0 11 rfl rfl)
theorem dJ2_grow_2_14 : decode cJ2_grow_2 14 = .ok (.getstatic 39, 3) := dk_178 0 39 (dk_at dksJ2_grow_2_0 14 rfl rfl)
theorem dJ2_grow_2_17 : decode cJ2_grow_2 17 = .ok (.if_acmp .eq 28, 3) := dk_165 0 28 (dk_at dksJ2_grow_2_0 17 rfl rfl)
theorem dJ2_grow_2_20 : decode cJ2_grow_2 20 = .ok (.iload_n 2, 1) := dk_28 (dk_at dksJ2_grow_2_0 20 rfl rfl)
theorem dJ2_grow_2_21 : decode cJ2_grow_2 21 = .ok (.iload_n 1, 1) := dk_27 (dk_at dksJ2_grow_2_0 21 rfl rfl)
theorem dJ2_grow_2_22 : decode cJ2_grow_2 22 = .ok (.iload_n 2, 1) := dk_28 (dk_at dksJ2_grow_2_0 22 rfl rfl)
theorem dJ2_grow_2_23 : decode cJ2_grow_2 23 = .ok (.isub, 1) := dk_100 (dk_at dksJ2_grow_2_0 23 rfl rfl)
theorem dJ2_grow_2_24 : decode cJ2_grow_2 24 = .ok (.iload_n 2, 1) := dk_28 (dk_at dksJ2_grow_2_1 0 rfl rfl)
theorem dJ2_grow_2_25 : decode cJ2_grow_2 25 = .ok (.iconst 1, 1) := dk_4 (dk_at dksJ2_grow_2_1 1 rfl rfl)
theorem dJ2_grow_2_26 : decode cJ2_grow_2 26 = .ok (.ishr, 1) := dk_122 (dk_at dksJ2_grow_2_1 2 rfl rfl)
theorem dJ2_grow_2_27 : decode cJ2_grow_2 27 = .ok (.invokestatic 73, 3) := dk_184 0 73 (dk_at dksJ2_grow_2_1 3 rfl rfl)
theorem dJ2_grow_2_30 : decode cJ2_grow_2 30 = .ok (.istore_n 3, 1) := dk_62 (dk_at dksJ2_grow_2_1 6 rfl rfl)
theorem dJ2_grow_2_31 : decode cJ2_grow_2 31 = .ok (.aload_n 0, 1) := dk_42 (dk_at dksJ2_grow_2_1 7 rfl rfl)
theorem dJ2_grow_2_32 : decode cJ2_grow_2 32 = .ok (.aload_n 0, 1) := dk_42 (dk_at dksJ2_grow_2_1 8 rfl rfl)
theorem dJ2_grow_2_33 : decode cJ2_grow_2 33 = .ok (.getfield 9, 3) := dk_180 0 9 (dk_at dksJ2_grow_2_1 9 rfl rfl)
theorem dJ2_grow_2_36 : decode cJ2_grow_2 36 = .ok (.iload_n 3, 1) := dk_29 (dk_at dksJ2_grow_2_1 12 rfl rfl)
theorem dJ2_grow_2_37 : decode cJ2_grow_2 37 = .ok (.invokestatic 66, 3) := dk_184 0 66 (dk_at dksJ2_grow_2_1 13 rfl rfl)
theorem dJ2_grow_2_40 : decode cJ2_grow_2 40 = .ok (.dup_x1, 1) := dk_90 (dk_at dksJ2_grow_2_1 16 rfl rfl)
theorem dJ2_grow_2_41 : decode cJ2_grow_2 41 = .ok (.putfield 9, 3) := dk_181 0 9 (dk_at dksJ2_grow_2_1 17 rfl rfl)
theorem dJ2_grow_2_44 : decode cJ2_grow_2 44 = .ok (.areturn, 1) := dk_176 (dk_at dksJ2_grow_2_1 20 rfl rfl)
theorem dJ2_grow_2_45 : decode cJ2_grow_2 45 = .ok (.aload_n 0, 1) := dk_42 (dk_at dksJ2_grow_2_1 21 rfl rfl)
theorem dJ2_grow_2_46 : decode cJ2_grow_2 46 = .ok (.bipush 10, 2) := dk_16 10 (dk_at dksJ2_grow_2_1 22 rfl rfl)
theorem dJ2_grow_2_48 : decode cJ2_grow_2 48 = .ok (.iload_n 1, 1) := dk_27 (dk_at dksJ2_grow_2_2 0 rfl rfl)
theorem dJ2_grow_2_49 : decode cJ2_grow_2 49 = .ok (.invokestatic 79, 3) := dk_184 0 79 (dk_at dksJ2_grow_2_2 1 rfl rfl)
theorem dJ2_grow_2_52 : decode cJ2_grow_2 52 = .ok (.anewarray 7, 3) := dk_189 0 7 (dk_at dksJ2_grow_2_2 4 rfl rfl)
theorem dJ2_grow_2_55 : decode cJ2_grow_2 55 = .ok (.dup_x1, 1) := dk_90 (dk_at dksJ2_grow_2_2 7 rfl rfl)
theorem dJ2_grow_2_56 : decode cJ2_grow_2 56 = .ok (.putfield 9, 3) := dk_181 0 9 (dk_at dksJ2_grow_2_2 8 rfl rfl)
theorem dJ2_grow_2_59 : decode cJ2_grow_2 59 = .ok (.areturn, 1) := dk_176 (dk_at dksJ2_grow_2_2 11 rfl rfl)
abbrev cJ2_remove : ByteArray := prog_50_method_29_code
def yJ2_remove : MethodName := ⟨RJ2, "remove", "(I)Ljava/lang/Object;"⟩
def dkwJ2_remove_1 : List UInt8 := [45, 176]
abbrev dktJ2_remove_1 : List UInt8 := dkwJ2_remove_1 ++ []
def dkwJ2_remove_0 : List UInt8 := [27, 42, 180, 0, 48, 184, 0, 118, 87, 42, 180, 0, 9, 77, 44, 27, 50, 78, 42, 44, 27, 182, 0, 144]
abbrev dktJ2_remove_0 : List UInt8 := dkwJ2_remove_0 ++ dktJ2_remove_1
theorem dksJ2_remove_0 : cJ2_remove.data.toList.drop 0 = dktJ2_remove_0 := by decide +kernel
theorem dksJ2_remove_1 : cJ2_remove.data.toList.drop 24 = dktJ2_remove_1 := dk_seg dksJ2_remove_0 24 rfl rfl
theorem dJ2_remove_0 : decode cJ2_remove 0 = .ok (.iload_n 1, 1) := dk_27 (dk_at dksJ2_remove_0 0 rfl rfl)
theorem dJ2_remove_1 : decode cJ2_remove 1 = .ok (.aload_n 0, 1) := dk_42 (dk_at dksJ2_remove_0 1 rfl rfl)
theorem dJ2_remove_2 : decode cJ2_remove 2 = .ok (.getfield 48, 3) := dk_180 0 48 (dk_at dksJ2_remove_0 2 rfl rfl)
theorem dJ2_remove_5 : decode cJ2_remove 5 = .ok (.invokestatic 118, 3) := dk_184 0 118 (dk_at dksJ2_remove_0 5 rfl rfl)
theorem dJ2_remove_8 : decode cJ2_remove 8 = .ok (.pop, 1) := dk_87 (dk_at dksJ2_remove_0 8 rfl rfl)
theorem dJ2_remove_9 : decode cJ2_remove 9 = .ok (.aload_n 0, 1) := dk_42 (dk_at dksJ2_remove_0 9 rfl rfl)
theorem dJ2_remove_10 : decode cJ2_remove 10 = .ok (.getfield 9, 3) := dk_180 0 9 (dk_at dksJ2_remove_0 10 rfl rfl)
theorem dJ2_remove_13 : decode cJ2_remove 13 = .ok (.astore_n 2, 1) := dk_77 (dk_at dksJ2_remove_0 13 rfl rfl)
theorem dJ2_remove_14 : decode cJ2_remove 14 = .ok (.aload_n 2, 1) := dk_44 (dk_at dksJ2_remove_0 14 rfl rfl)
theorem dJ2_remove_15 : decode cJ2_remove 15 = .ok (.iload_n 1, 1) := dk_27 (dk_at dksJ2_remove_0 15 rfl rfl)
theorem dJ2_remove_16 : decode cJ2_remove 16 = .ok (.aaload, 1) := dk_50 (dk_at dksJ2_remove_0 16 rfl rfl)
theorem dJ2_remove_17 : decode cJ2_remove 17 = .ok (.astore_n 3, 1) := dk_78 (dk_at dksJ2_remove_0 17 rfl rfl)
theorem dJ2_remove_18 : decode cJ2_remove 18 = .ok (.aload_n 0, 1) := dk_42 (dk_at dksJ2_remove_0 18 rfl rfl)
theorem dJ2_remove_19 : decode cJ2_remove 19 = .ok (.aload_n 2, 1) := dk_44 (dk_at dksJ2_remove_0 19 rfl rfl)
theorem dJ2_remove_20 : decode cJ2_remove 20 = .ok (.iload_n 1, 1) := dk_27 (dk_at dksJ2_remove_0 20 rfl rfl)
theorem dJ2_remove_21 : decode cJ2_remove 21 = .ok (.invokevirtual 144, 3) := dk_182 0 144 (dk_at dksJ2_remove_0 21 rfl rfl)
theorem dJ2_remove_24 : decode cJ2_remove 24 = .ok (.aload_n 3, 1) := dk_45 (dk_at dksJ2_remove_1 0 rfl rfl)
theorem dJ2_remove_25 : decode cJ2_remove 25 = .ok (.areturn, 1) := dk_176 (dk_at dksJ2_remove_1 1 rfl rfl)
abbrev cJ2_fastRemove : ByteArray := prog_50_method_39_code
def yJ2_fastRemove : MethodName := ⟨RJ2, "fastRemove", "([Ljava/lang/Object;I)V"⟩
def dkwJ2_fastRemove_1 : List UInt8 := [4, 96, 43, 28, 29, 28, 100, 184, 0, 112, 43, 42, 29, 90, 181, 0, 48, 1, 83, 177]
abbrev dktJ2_fastRemove_1 : List UInt8 := dkwJ2_fastRemove_1 ++ []
def dkwJ2_fastRemove_0 : List UInt8 := [42, 89, 180, 0, 63, 4, 96, 181, 0, 63, 42, 180, 0, 48, 4, 100, 89, 62, 28, 164, 0, 15, 43, 28]
abbrev dktJ2_fastRemove_0 : List UInt8 := dkwJ2_fastRemove_0 ++ dktJ2_fastRemove_1
theorem dksJ2_fastRemove_0 : cJ2_fastRemove.data.toList.drop 0 = dktJ2_fastRemove_0 := by decide +kernel
theorem dksJ2_fastRemove_1 : cJ2_fastRemove.data.toList.drop 24 = dktJ2_fastRemove_1 := dk_seg dksJ2_fastRemove_0 24 rfl rfl
theorem dJ2_fastRemove_0 : decode cJ2_fastRemove 0 = .ok (.aload_n 0, 1) := dk_42 (dk_at dksJ2_fastRemove_0 0 rfl rfl)
theorem dJ2_fastRemove_1 : decode cJ2_fastRemove 1 = .ok (.dup, 1) := dk_89 (dk_at dksJ2_fastRemove_0 1 rfl rfl)
theorem dJ2_fastRemove_2 : decode cJ2_fastRemove 2 = .ok (.getfield 63, 3) := dk_180 0 63 (dk_at dksJ2_fastRemove_0 2 rfl rfl)
theorem dJ2_fastRemove_5 : decode cJ2_fastRemove 5 = .ok (.iconst 1, 1) := dk_4 (dk_at dksJ2_fastRemove_0 5 rfl rfl)
theorem dJ2_fastRemove_6 : decode cJ2_fastRemove 6 = .ok (.iadd, 1) := dk_96 (dk_at dksJ2_fastRemove_0 6 rfl rfl)
theorem dJ2_fastRemove_7 : decode cJ2_fastRemove 7 = .ok (.putfield 63, 3) := dk_181 0 63 (dk_at dksJ2_fastRemove_0 7 rfl rfl)
theorem dJ2_fastRemove_10 : decode cJ2_fastRemove 10 = .ok (.aload_n 0, 1) := dk_42 (dk_at dksJ2_fastRemove_0 10 rfl rfl)
theorem dJ2_fastRemove_11 : decode cJ2_fastRemove 11 = .ok (.getfield 48, 3) := dk_180 0 48 (dk_at dksJ2_fastRemove_0 11 rfl rfl)
theorem dJ2_fastRemove_14 : decode cJ2_fastRemove 14 = .ok (.iconst 1, 1) := dk_4 (dk_at dksJ2_fastRemove_0 14 rfl rfl)
theorem dJ2_fastRemove_15 : decode cJ2_fastRemove 15 = .ok (.isub, 1) := dk_100 (dk_at dksJ2_fastRemove_0 15 rfl rfl)
theorem dJ2_fastRemove_16 : decode cJ2_fastRemove 16 = .ok (.dup, 1) := dk_89 (dk_at dksJ2_fastRemove_0 16 rfl rfl)
theorem dJ2_fastRemove_17 : decode cJ2_fastRemove 17 = .ok (.istore_n 3, 1) := dk_62 (dk_at dksJ2_fastRemove_0 17 rfl rfl)
theorem dJ2_fastRemove_18 : decode cJ2_fastRemove 18 = .ok (.iload_n 2, 1) := dk_28 (dk_at dksJ2_fastRemove_0 18 rfl rfl)
theorem dJ2_fastRemove_19 : decode cJ2_fastRemove 19 = .ok (.if_icmp .le 15, 3) := dk_164 0 15 (dk_at dksJ2_fastRemove_0 19 rfl rfl)
theorem dJ2_fastRemove_22 : decode cJ2_fastRemove 22 = .ok (.aload_n 1, 1) := dk_43 (dk_at dksJ2_fastRemove_0 22 rfl rfl)
theorem dJ2_fastRemove_23 : decode cJ2_fastRemove 23 = .ok (.iload_n 2, 1) := dk_28 (dk_at dksJ2_fastRemove_0 23 rfl rfl)
theorem dJ2_fastRemove_24 : decode cJ2_fastRemove 24 = .ok (.iconst 1, 1) := dk_4 (dk_at dksJ2_fastRemove_1 0 rfl rfl)
theorem dJ2_fastRemove_25 : decode cJ2_fastRemove 25 = .ok (.iadd, 1) := dk_96 (dk_at dksJ2_fastRemove_1 1 rfl rfl)
theorem dJ2_fastRemove_26 : decode cJ2_fastRemove 26 = .ok (.aload_n 1, 1) := dk_43 (dk_at dksJ2_fastRemove_1 2 rfl rfl)
theorem dJ2_fastRemove_27 : decode cJ2_fastRemove 27 = .ok (.iload_n 2, 1) := dk_28 (dk_at dksJ2_fastRemove_1 3 rfl rfl)
theorem dJ2_fastRemove_28 : decode cJ2_fastRemove 28 = .ok (.iload_n 3, 1) := dk_29 (dk_at dksJ2_fastRemove_1 4 rfl rfl)
theorem dJ2_fastRemove_29 : decode cJ2_fastRemove 29 = .ok (.iload_n 2, 1) := dk_28 (dk_at dksJ2_fastRemove_1 5 rfl rfl)
theorem dJ2_fastRemove_30 : decode cJ2_fastRemove 30 = .ok (.isub, 1) := dk_100 (dk_at dksJ2_fastRemove_1 6 rfl rfl)
theorem dJ2_fastRemove_31 : decode cJ2_fastRemove 31 = .ok (.invokestatic 112, 3) := dk_184 0 112 (dk_at dksJ2_fastRemove_1 7 rfl rfl)
theorem dJ2_fastRemove_34 : decode cJ2_fastRemove 34 = .ok (.aload_n 1, 1) := dk_43 (dk_at dksJ2_fastRemove_1 10 rfl rfl)
theorem dJ2_fastRemove_35 : decode cJ2_fastRemove 35 = .ok (.aload_n 0, 1) := dk_42 (dk_at dksJ2_fastRemove_1 11 rfl rfl)
theorem dJ2_fastRemove_36 : decode cJ2_fastRemove 36 = .ok (.iload_n 3, 1) := dk_29 (dk_at dksJ2_fastRemove_1 12 rfl rfl)
theorem dJ2_fastRemove_37 : decode cJ2_fastRemove 37 = .ok (.dup_x1, 1) := dk_90 (dk_at dksJ2_fastRemove_1 13 rfl rfl)
theorem dJ2_fastRemove_38 : decode cJ2_fastRemove 38 = .ok (.putfield 48, 3) := dk_181 0 48 (dk_at dksJ2_fastRemove_1 14 rfl rfl)
theorem dJ2_fastRemove_41 : decode cJ2_fastRemove 41 = .ok (.aconst_null, 1) := dk_1 (dk_at dksJ2_fastRemove_1 17 rfl rfl)
theorem dJ2_fastRemove_42 : decode cJ2_fastRemove 42 = .ok (.aastore, 1) := dk_83 (dk_at dksJ2_fastRemove_1 18 rfl rfl)
theorem dJ2_fastRemove_43 : decode cJ2_fastRemove 43 = .ok (.return_, 1) := dk_177 (dk_at dksJ2_fastRemove_1 19 rfl rfl)
abbrev cJ2_iterator : ByteArray := prog_50_method_55_code
def yJ2_iterator : MethodName := ⟨RJ2, "iterator", "()Ljava/util/Iterator;"⟩
def dkwJ2_iterator_0 : List UInt8 := [187, 1, 11, 89, 42, 183, 1, 13, 176]
abbrev dktJ2_iterator_0 : List UInt8 := dkwJ2_iterator_0 ++ []
theorem dksJ2_iterator_0 : cJ2_iterator.data.toList.drop 0 = dktJ2_iterator_0 := by decide +kernel
theorem dJ2_iterator_0 : decode cJ2_iterator 0 = .ok (.new 267, 3) := dk_187 1 11 (dk_at dksJ2_iterator_0 0 rfl rfl)
theorem dJ2_iterator_3 : decode cJ2_iterator 3 = .ok (.dup, 1) := dk_89 (dk_at dksJ2_iterator_0 3 rfl rfl)
theorem dJ2_iterator_4 : decode cJ2_iterator 4 = .ok (.aload_n 0, 1) := dk_42 (dk_at dksJ2_iterator_0 4 rfl rfl)
theorem dJ2_iterator_5 : decode cJ2_iterator 5 = .ok (.invokespecial 269, 3) := dk_183 1 13 (dk_at dksJ2_iterator_0 5 rfl rfl)
theorem dJ2_iterator_8 : decode cJ2_iterator 8 = .ok (.areturn, 1) := dk_176 (dk_at dksJ2_iterator_0 8 rfl rfl)
abbrev cJ2_clear : ByteArray := prog_50_method_40_code
def yJ2_clear : MethodName := ⟨RJ2, "clear", "()V"⟩
def dkwJ2_clear_1 : List UInt8 := [181, 0, 48, 62, 29, 28, 162, 0, 13, 43, 29, 1, 83, 132, 3, 1, 167, 255, 244, 177]
abbrev dktJ2_clear_1 : List UInt8 := dkwJ2_clear_1 ++ []
def dkwJ2_clear_0 : List UInt8 := [42, 89, 180, 0, 63, 4, 96, 181, 0, 63, 42, 180, 0, 9, 76, 42, 180, 0, 48, 61, 42, 3, 90]
abbrev dktJ2_clear_0 : List UInt8 := dkwJ2_clear_0 ++ dktJ2_clear_1
theorem dksJ2_clear_0 : cJ2_clear.data.toList.drop 0 = dktJ2_clear_0 := by decide +kernel
theorem dksJ2_clear_1 : cJ2_clear.data.toList.drop 23 = dktJ2_clear_1 := dk_seg dksJ2_clear_0 23 rfl rfl
theorem dJ2_clear_0 : decode cJ2_clear 0 = .ok (.aload_n 0, 1) := dk_42 (dk_at dksJ2_clear_0 0 rfl rfl)
theorem dJ2_clear_1 : decode cJ2_clear 1 = .ok (.dup, 1) := dk_89 (dk_at dksJ2_clear_0 1 rfl rfl)
theorem dJ2_clear_2 : decode cJ2_clear 2 = .ok (.getfield 63, 3) := dk_180 0 63 (dk_at dksJ2_clear_0 2 rfl rfl)
theorem dJ2_clear_5 : decode cJ2_clear 5 = .ok (.iconst 1, 1) := dk_4 (dk_at dksJ2_clear_0 5 rfl rfl)
theorem dJ2_clear_6 : decode cJ2_clear 6 = .ok (.iadd, 1) := dk_96 (dk_at dksJ2_clear_0 6 rfl rfl)
theorem dJ2_clear_7 : decode cJ2_clear 7 = .ok (.putfield 63, 3) := dk_181 0 63 (dk_at dksJ2_clear_0 7 rfl rfl)
theorem dJ2_clear_10 : decode cJ2_clear 10 = .ok (.aload_n 0, 1) := dk_42 (dk_at dksJ2_clear_0 10 rfl rfl)
theorem dJ2_clear_11 : decode cJ2_clear 11 = .ok (.getfield 9, 3) := dk_180 0 9 (dk_at dksJ2_clear_0 11 rfl rfl)
theorem dJ2_clear_14 : decode cJ2_clear 14 = .ok (.astore_n 1, 1) := dk_76 (dk_at dksJ2_clear_0 14 rfl rfl)
theorem dJ2_clear_15 : decode cJ2_clear 15 = .ok (.aload_n 0, 1) := dk_42 (dk_at dksJ2_clear_0 15 rfl rfl)
theorem dJ2_clear_16 : decode cJ2_clear 16 = .ok (.getfield 48, 3) := dk_180 0 48 (dk_at dksJ2_clear_0 16 rfl rfl)
theorem dJ2_clear_19 : decode cJ2_clear 19 = .ok (.istore_n 2, 1) := dk_61 (dk_at dksJ2_clear_0 19 rfl rfl)
theorem dJ2_clear_20 : decode cJ2_clear 20 = .ok (.aload_n 0, 1) := dk_42 (dk_at dksJ2_clear_0 20 rfl rfl)
theorem dJ2_clear_21 : decode cJ2_clear 21 = .ok (.iconst 0, 1) := dk_3 (dk_at dksJ2_clear_0 21 rfl rfl)
theorem dJ2_clear_22 : decode cJ2_clear 22 = .ok (.dup_x1, 1) := dk_90 (dk_at dksJ2_clear_0 22 rfl rfl)
theorem dJ2_clear_23 : decode cJ2_clear 23 = .ok (.putfield 48, 3) := dk_181 0 48 (dk_at dksJ2_clear_1 0 rfl rfl)
theorem dJ2_clear_26 : decode cJ2_clear 26 = .ok (.istore_n 3, 1) := dk_62 (dk_at dksJ2_clear_1 3 rfl rfl)
theorem dJ2_clear_27 : decode cJ2_clear 27 = .ok (.iload_n 3, 1) := dk_29 (dk_at dksJ2_clear_1 4 rfl rfl)
theorem dJ2_clear_28 : decode cJ2_clear 28 = .ok (.iload_n 2, 1) := dk_28 (dk_at dksJ2_clear_1 5 rfl rfl)
theorem dJ2_clear_29 : decode cJ2_clear 29 = .ok (.if_icmp .ge 13, 3) := dk_162 0 13 (dk_at dksJ2_clear_1 6 rfl rfl)
theorem dJ2_clear_32 : decode cJ2_clear 32 = .ok (.aload_n 1, 1) := dk_43 (dk_at dksJ2_clear_1 9 rfl rfl)
theorem dJ2_clear_33 : decode cJ2_clear 33 = .ok (.iload_n 3, 1) := dk_29 (dk_at dksJ2_clear_1 10 rfl rfl)
theorem dJ2_clear_34 : decode cJ2_clear 34 = .ok (.aconst_null, 1) := dk_1 (dk_at dksJ2_clear_1 11 rfl rfl)
theorem dJ2_clear_35 : decode cJ2_clear 35 = .ok (.aastore, 1) := dk_83 (dk_at dksJ2_clear_1 12 rfl rfl)
theorem dJ2_clear_36 : decode cJ2_clear 36 = .ok (.iinc 3 1, 3) := dk_132 3 1 (dk_at dksJ2_clear_1 13 rfl rfl)
theorem dJ2_clear_39 : decode cJ2_clear 39 = .ok (.goto (-12), 3) := dk_167 255 244 (dk_at dksJ2_clear_1 16 rfl rfl)
theorem dJ2_clear_42 : decode cJ2_clear 42 = .ok (.return_, 1) := dk_177 (dk_at dksJ2_clear_1 19 rfl rfl)
abbrev cJ2_isEmpty : ByteArray := prog_50_method_9_code
def yJ2_isEmpty : MethodName := ⟨RJ2, "isEmpty", "()Z"⟩
def dkwJ2_isEmpty_0 : List UInt8 := [42, 180, 0, 48, 154, 0, 7, 4, 167, 0, 4, 3, 172]
abbrev dktJ2_isEmpty_0 : List UInt8 := dkwJ2_isEmpty_0 ++ []
theorem dksJ2_isEmpty_0 : cJ2_isEmpty.data.toList.drop 0 = dktJ2_isEmpty_0 := by decide +kernel
theorem dJ2_isEmpty_0 : decode cJ2_isEmpty 0 = .ok (.aload_n 0, 1) := dk_42 (dk_at dksJ2_isEmpty_0 0 rfl rfl)
theorem dJ2_isEmpty_1 : decode cJ2_isEmpty 1 = .ok (.getfield 48, 3) := dk_180 0 48 (dk_at dksJ2_isEmpty_0 1 rfl rfl)
theorem dJ2_isEmpty_4 : decode cJ2_isEmpty 4 = .ok (.ifCond .ne 7, 3) := dk_154 0 7 (dk_at dksJ2_isEmpty_0 4 rfl rfl)
theorem dJ2_isEmpty_7 : decode cJ2_isEmpty 7 = .ok (.iconst 1, 1) := dk_4 (dk_at dksJ2_isEmpty_0 7 rfl rfl)
theorem dJ2_isEmpty_8 : decode cJ2_isEmpty 8 = .ok (.goto 4, 3) := dk_167 0 4 (dk_at dksJ2_isEmpty_0 8 rfl rfl)
theorem dJ2_isEmpty_11 : decode cJ2_isEmpty 11 = .ok (.iconst 0, 1) := dk_3 (dk_at dksJ2_isEmpty_0 11 rfl rfl)
theorem dJ2_isEmpty_12 : decode cJ2_isEmpty 12 = .ok (.ireturn, 1) := dk_172 (dk_at dksJ2_isEmpty_0 12 rfl rfl)
abbrev cJ2_remove_2 : ByteArray := prog_50_method_38_code
def yJ2_remove_2 : MethodName := ⟨RJ2, "remove", "(Ljava/lang/Object;)Z"⟩
def dkwJ2_remove_2_3 : List UInt8 := [182, 0, 144, 4, 172]
abbrev dktJ2_remove_2_3 : List UInt8 := dkwJ2_remove_2_3 ++ []
def dkwJ2_remove_2_2 : List UInt8 := [21, 4, 50, 182, 0, 93, 153, 0, 6, 167, 0, 11, 132, 4, 1, 167, 255, 233, 3, 172, 42, 44, 21, 4]
abbrev dktJ2_remove_2_2 : List UInt8 := dkwJ2_remove_2_2 ++ dktJ2_remove_2_3
def dkwJ2_remove_2_1 : List UInt8 := [21, 4, 50, 199, 0, 6, 167, 0, 37, 132, 4, 1, 167, 255, 237, 21, 4, 29, 162, 0, 23, 43, 44]
abbrev dktJ2_remove_2_1 : List UInt8 := dkwJ2_remove_2_1 ++ dktJ2_remove_2_2
def dkwJ2_remove_2_0 : List UInt8 := [42, 180, 0, 9, 77, 42, 180, 0, 48, 62, 3, 54, 4, 43, 199, 0, 25, 21, 4, 29, 162, 0, 45, 44]
abbrev dktJ2_remove_2_0 : List UInt8 := dkwJ2_remove_2_0 ++ dktJ2_remove_2_1
theorem dksJ2_remove_2_0 : cJ2_remove_2.data.toList.drop 0 = dktJ2_remove_2_0 := by decide +kernel
theorem dksJ2_remove_2_1 : cJ2_remove_2.data.toList.drop 24 = dktJ2_remove_2_1 := dk_seg dksJ2_remove_2_0 24 rfl rfl
theorem dksJ2_remove_2_2 : cJ2_remove_2.data.toList.drop 47 = dktJ2_remove_2_2 := dk_seg dksJ2_remove_2_1 23 rfl rfl
theorem dksJ2_remove_2_3 : cJ2_remove_2.data.toList.drop 71 = dktJ2_remove_2_3 := dk_seg dksJ2_remove_2_2 24 rfl rfl
theorem dJ2_remove_2_0 : decode cJ2_remove_2 0 = .ok (.aload_n 0, 1) := dk_42 (dk_at dksJ2_remove_2_0 0 rfl rfl)
theorem dJ2_remove_2_1 : decode cJ2_remove_2 1 = .ok (.getfield 9, 3) := dk_180 0 9 (dk_at dksJ2_remove_2_0 1 rfl rfl)
theorem dJ2_remove_2_4 : decode cJ2_remove_2 4 = .ok (.astore_n 2, 1) := dk_77 (dk_at dksJ2_remove_2_0 4 rfl rfl)
theorem dJ2_remove_2_5 : decode cJ2_remove_2 5 = .ok (.aload_n 0, 1) := dk_42 (dk_at dksJ2_remove_2_0 5 rfl rfl)
theorem dJ2_remove_2_6 : decode cJ2_remove_2 6 = .ok (.getfield 48, 3) := dk_180 0 48 (dk_at dksJ2_remove_2_0 6 rfl rfl)
theorem dJ2_remove_2_9 : decode cJ2_remove_2 9 = .ok (.istore_n 3, 1) := dk_62 (dk_at dksJ2_remove_2_0 9 rfl rfl)
theorem dJ2_remove_2_10 : decode cJ2_remove_2 10 = .ok (.iconst 0, 1) := dk_3 (dk_at dksJ2_remove_2_0 10 rfl rfl)
theorem dJ2_remove_2_11 : decode cJ2_remove_2 11 = .ok (.istore 4, 2) := dk_54 4 (dk_at dksJ2_remove_2_0 11 rfl rfl)
theorem dJ2_remove_2_13 : decode cJ2_remove_2 13 = .ok (.aload_n 1, 1) := dk_43 (dk_at dksJ2_remove_2_0 13 rfl rfl)
theorem dJ2_remove_2_14 : decode cJ2_remove_2 14 = .ok (.ifnonnull 25, 3) := dk_199 0 25 (dk_at dksJ2_remove_2_0 14 rfl rfl)
theorem dJ2_remove_2_17 : decode cJ2_remove_2 17 = .ok (.iload 4, 2) := dk_21 4 (dk_at dksJ2_remove_2_0 17 rfl rfl)
theorem dJ2_remove_2_19 : decode cJ2_remove_2 19 = .ok (.iload_n 3, 1) := dk_29 (dk_at dksJ2_remove_2_0 19 rfl rfl)
theorem dJ2_remove_2_20 : decode cJ2_remove_2 20 = .ok (.if_icmp .ge 45, 3) := dk_162 0 45 (dk_at dksJ2_remove_2_0 20 rfl rfl)
theorem dJ2_remove_2_23 : decode cJ2_remove_2 23 = .ok (.aload_n 2, 1) := dk_44 (dk_at dksJ2_remove_2_0 23 rfl rfl)
theorem dJ2_remove_2_24 : decode cJ2_remove_2 24 = .ok (.iload 4, 2) := dk_21 4 (dk_at dksJ2_remove_2_1 0 rfl rfl)
theorem dJ2_remove_2_26 : decode cJ2_remove_2 26 = .ok (.aaload, 1) := dk_50 (dk_at dksJ2_remove_2_1 2 rfl rfl)
theorem dJ2_remove_2_27 : decode cJ2_remove_2 27 = .ok (.ifnonnull 6, 3) := dk_199 0 6 (dk_at dksJ2_remove_2_1 3 rfl rfl)
theorem dJ2_remove_2_30 : decode cJ2_remove_2 30 = .ok (.goto 37, 3) := dk_167 0 37 (dk_at dksJ2_remove_2_1 6 rfl rfl)
theorem dJ2_remove_2_33 : decode cJ2_remove_2 33 = .ok (.iinc 4 1, 3) := dk_132 4 1 (dk_at dksJ2_remove_2_1 9 rfl rfl)
theorem dJ2_remove_2_36 : decode cJ2_remove_2 36 = .ok (.goto (-19), 3) := dk_167 255 237 (dk_at dksJ2_remove_2_1 12 rfl rfl)
theorem dJ2_remove_2_39 : decode cJ2_remove_2 39 = .ok (.iload 4, 2) := dk_21 4 (dk_at dksJ2_remove_2_1 15 rfl rfl)
theorem dJ2_remove_2_41 : decode cJ2_remove_2 41 = .ok (.iload_n 3, 1) := dk_29 (dk_at dksJ2_remove_2_1 17 rfl rfl)
theorem dJ2_remove_2_42 : decode cJ2_remove_2 42 = .ok (.if_icmp .ge 23, 3) := dk_162 0 23 (dk_at dksJ2_remove_2_1 18 rfl rfl)
theorem dJ2_remove_2_45 : decode cJ2_remove_2 45 = .ok (.aload_n 1, 1) := dk_43 (dk_at dksJ2_remove_2_1 21 rfl rfl)
theorem dJ2_remove_2_46 : decode cJ2_remove_2 46 = .ok (.aload_n 2, 1) := dk_44 (dk_at dksJ2_remove_2_1 22 rfl rfl)
theorem dJ2_remove_2_47 : decode cJ2_remove_2 47 = .ok (.iload 4, 2) := dk_21 4 (dk_at dksJ2_remove_2_2 0 rfl rfl)
theorem dJ2_remove_2_49 : decode cJ2_remove_2 49 = .ok (.aaload, 1) := dk_50 (dk_at dksJ2_remove_2_2 2 rfl rfl)
theorem dJ2_remove_2_50 : decode cJ2_remove_2 50 = .ok (.invokevirtual 93, 3) := dk_182 0 93 (dk_at dksJ2_remove_2_2 3 rfl rfl)
theorem dJ2_remove_2_53 : decode cJ2_remove_2 53 = .ok (.ifCond .eq 6, 3) := dk_153 0 6 (dk_at dksJ2_remove_2_2 6 rfl rfl)
theorem dJ2_remove_2_56 : decode cJ2_remove_2 56 = .ok (.goto 11, 3) := dk_167 0 11 (dk_at dksJ2_remove_2_2 9 rfl rfl)
theorem dJ2_remove_2_59 : decode cJ2_remove_2 59 = .ok (.iinc 4 1, 3) := dk_132 4 1 (dk_at dksJ2_remove_2_2 12 rfl rfl)
theorem dJ2_remove_2_62 : decode cJ2_remove_2 62 = .ok (.goto (-23), 3) := dk_167 255 233 (dk_at dksJ2_remove_2_2 15 rfl rfl)
theorem dJ2_remove_2_65 : decode cJ2_remove_2 65 = .ok (.iconst 0, 1) := dk_3 (dk_at dksJ2_remove_2_2 18 rfl rfl)
theorem dJ2_remove_2_66 : decode cJ2_remove_2 66 = .ok (.ireturn, 1) := dk_172 (dk_at dksJ2_remove_2_2 19 rfl rfl)
theorem dJ2_remove_2_67 : decode cJ2_remove_2 67 = .ok (.aload_n 0, 1) := dk_42 (dk_at dksJ2_remove_2_2 20 rfl rfl)
theorem dJ2_remove_2_68 : decode cJ2_remove_2 68 = .ok (.aload_n 2, 1) := dk_44 (dk_at dksJ2_remove_2_2 21 rfl rfl)
theorem dJ2_remove_2_69 : decode cJ2_remove_2 69 = .ok (.iload 4, 2) := dk_21 4 (dk_at dksJ2_remove_2_2 22 rfl rfl)
theorem dJ2_remove_2_71 : decode cJ2_remove_2 71 = .ok (.invokevirtual 144, 3) := dk_182 0 144 (dk_at dksJ2_remove_2_3 0 rfl rfl)
theorem dJ2_remove_2_74 : decode cJ2_remove_2 74 = .ok (.iconst 1, 1) := dk_4 (dk_at dksJ2_remove_2_3 3 rfl rfl)
theorem dJ2_remove_2_75 : decode cJ2_remove_2 75 = .ok (.ireturn, 1) := dk_172 (dk_at dksJ2_remove_2_3 4 rfl rfl)
theorem q48 : (Jvm.Cond.initialized "java/util/ArrayList") ∈ lw_all := lw_g (lw_at lw_m1 4 rfl) rfl
theorem q112 : (Jvm.Cond.instanceMethod ({ cls := "java/util/ArrayList", name := "size", desc := "()I" } : Jvm.MethodName)) ∈ lw_all := lw_g (lw_at lw_m1 68 rfl) rfl
theorem q113 : (Jvm.Cond.selects "java/util/ArrayList" ({ cls := "java/util/ArrayList", name := "size", desc := "()I" } : Jvm.MethodName) ({ cls := "java/util/ArrayList", name := "size", desc := "()I" } : Jvm.MethodName)) ∈ lw_all := lw_g (lw_at lw_m1 69 rfl) rfl
theorem q114 : (Jvm.Cond.code ({ cls := "java/util/ArrayList", name := "size", desc := "()I" } : Jvm.MethodName) prog_50_method_8_code (1 : Nat) (Option.some Jvm.ClassFile.FieldType.int)) ∈ lw_all := lw_g (lw_at lw_m1 70 rfl) rfl
theorem q120 : (Jvm.Cond.instantiable "java/util/ArrayList" (3 : Nat)) ∈ lw_all := lw_g (lw_at lw_m1 76 rfl) rfl
theorem q122 : (Jvm.Cond.instanceMethod ({ cls := "java/util/ArrayList", name := "<init>", desc := "()V" } : Jvm.MethodName)) ∈ lw_all := lw_g (lw_at lw_m1 78 rfl) rfl
theorem q123 : (Jvm.Cond.code ({ cls := "java/util/ArrayList", name := "<init>", desc := "()V" } : Jvm.MethodName) prog_50_method_2_code (1 : Nat) (Option.none : Option Jvm.ClassFile.FieldType)) ∈ lw_all := lw_g (lw_at lw_m1 79 rfl) rfl
theorem q124 : (Jvm.Cond.methodLink "java/util/ArrayList" (1 : Nat) ({ cls := "java/util/AbstractList", name := "<init>", desc := "()V" } : Jvm.MethodName)) ∈ lw_all := lw_g (lw_at lw_m1 80 rfl) rfl
theorem q131 : (Jvm.Cond.fieldLink "java/util/ArrayList" (39 : Nat) "java/util/ArrayList" "DEFAULTCAPACITY_EMPTY_ELEMENTDATA" "[Ljava/lang/Object;") ∈ lw_all := lw_g (lw_at lw_m1 87 rfl) rfl
theorem q132 : (Jvm.Cond.laysStatic "java/util/ArrayList" "DEFAULTCAPACITY_EMPTY_ELEMENTDATA" "[Ljava/lang/Object;") ∈ lw_tbl := lw_at lw_m1 88 rfl
theorem q133 : (Jvm.Cond.fieldLink "java/util/ArrayList" (9 : Nat) "java/util/ArrayList" "elementData" "[Ljava/lang/Object;") ∈ lw_all := lw_g (lw_at lw_m1 89 rfl) rfl
theorem q136 : (Jvm.Cond.fieldLink "java/util/ArrayList" (48 : Nat) "java/util/ArrayList" "size" "I") ∈ lw_all := lw_g (lw_at lw_m1 92 rfl) rfl
theorem q139 : (Jvm.Cond.sameField "java/util/ArrayList" "java/util/AbstractList" "modCount" "I") ∈ lw_all := lw_g (lw_at lw_m1 95 rfl) rfl
theorem q140 : (Jvm.Cond.fieldLink "java/util/ArrayList" (63 : Nat) "java/util/ArrayList" "modCount" "I") ∈ lw_all := lw_g (lw_at lw_m1 96 rfl) rfl
theorem q141 : (Jvm.Cond.lays "java/util/ArrayList" "java/util/ArrayList" "elementData" "[Ljava/lang/Object;") ∈ lw_all := lw_g (lw_at lw_m1 97 rfl) rfl
theorem q142 : (Jvm.Cond.soleField "java/util/ArrayList" "elementData") ∈ lw_all := lw_g (lw_at lw_m1 98 rfl) rfl
theorem q143 : (Jvm.Cond.lays "java/util/ArrayList" "java/util/ArrayList" "size" "I") ∈ lw_all := lw_g (lw_at lw_m1 99 rfl) rfl
theorem q144 : (Jvm.Cond.soleField "java/util/ArrayList" "size") ∈ lw_all := lw_g (lw_at lw_m1 100 rfl) rfl
theorem q145 : (Jvm.Cond.lays "java/util/ArrayList" "java/util/AbstractList" "modCount" "I") ∈ lw_all := lw_g (lw_at lw_m1 101 rfl) rfl
theorem q147 : (Jvm.Cond.superclass "java/util/ArrayList" "java/util/AbstractList") ∈ lw_all := lw_g (lw_at lw_m1 103 rfl) rfl
theorem q415 : (Jvm.Cond.instanceMethod ({ cls := "java/util/ArrayList", name := "get", desc := "(I)Ljava/lang/Object;" } : Jvm.MethodName)) ∈ lw_all := lw_g (lw_at lw_m2 131 rfl) rfl
theorem q416 : (Jvm.Cond.selects "java/util/ArrayList" ({ cls := "java/util/ArrayList", name := "get", desc := "(I)Ljava/lang/Object;" } : Jvm.MethodName) ({ cls := "java/util/ArrayList", name := "get", desc := "(I)Ljava/lang/Object;" } : Jvm.MethodName)) ∈ lw_all := lw_g (lw_at lw_m2 132 rfl) rfl
theorem q417 : (Jvm.Cond.code ({ cls := "java/util/ArrayList", name := "get", desc := "(I)Ljava/lang/Object;" } : Jvm.MethodName) prog_50_method_20_code (2 : Nat) (Option.some (Jvm.ClassFile.FieldType.object "java/lang/Object"))) ∈ lw_all := lw_g (lw_at lw_m2 133 rfl) rfl
theorem q418 : (Jvm.Cond.methodLink "java/util/ArrayList" (118 : Nat) ({ cls := "java/util/Objects", name := "checkIndex", desc := "(II)I" } : Jvm.MethodName)) ∈ lw_all := lw_g (lw_at lw_m2 134 rfl) rfl
theorem q424 : (Jvm.Cond.methodLink "java/util/ArrayList" (123 : Nat) ({ cls := "java/util/ArrayList", name := "elementData", desc := "(I)Ljava/lang/Object;" } : Jvm.MethodName)) ∈ lw_all := lw_g (lw_at lw_m2 140 rfl) rfl
theorem q425 : (Jvm.Cond.instanceMethod ({ cls := "java/util/ArrayList", name := "elementData", desc := "(I)Ljava/lang/Object;" } : Jvm.MethodName)) ∈ lw_all := lw_g (lw_at lw_m2 141 rfl) rfl
theorem q426 : (Jvm.Cond.selects "java/util/ArrayList" ({ cls := "java/util/ArrayList", name := "elementData", desc := "(I)Ljava/lang/Object;" } : Jvm.MethodName) ({ cls := "java/util/ArrayList", name := "elementData", desc := "(I)Ljava/lang/Object;" } : Jvm.MethodName)) ∈ lw_all := lw_g (lw_at lw_m2 142 rfl) rfl
theorem q427 : (Jvm.Cond.code ({ cls := "java/util/ArrayList", name := "elementData", desc := "(I)Ljava/lang/Object;" } : Jvm.MethodName) prog_50_method_18_code (2 : Nat) (Option.some (Jvm.ClassFile.FieldType.object "java/lang/Object"))) ∈ lw_all := lw_g (lw_at lw_m2 143 rfl) rfl
theorem q586 : (Jvm.Cond.selects "java/util/ArrayList" ({ cls := "java/lang/Object", name := "getClass", desc := "()Ljava/lang/Class;" } : Jvm.MethodName) ({ cls := "java/lang/Object", name := "getClass", desc := "()Ljava/lang/Class;" } : Jvm.MethodName)) ∈ lw_all := lw_g (lw_at lw_m3 62 rfl) rfl
theorem q935 : (Jvm.Cond.instanceMethod ({ cls := "java/util/ArrayList", name := "add", desc := "(Ljava/lang/Object;)Z" } : Jvm.MethodName)) ∈ lw_all := lw_g (lw_at lw_m4 171 rfl) rfl
theorem q936 : (Jvm.Cond.selects "java/util/ArrayList" ({ cls := "java/util/ArrayList", name := "add", desc := "(Ljava/lang/Object;)Z" } : Jvm.MethodName) ({ cls := "java/util/ArrayList", name := "add", desc := "(Ljava/lang/Object;)Z" } : Jvm.MethodName)) ∈ lw_all := lw_g (lw_at lw_m4 172 rfl) rfl
theorem q937 : (Jvm.Cond.code ({ cls := "java/util/ArrayList", name := "add", desc := "(Ljava/lang/Object;)Z" } : Jvm.MethodName) prog_50_method_25_code (2 : Nat) (Option.some Jvm.ClassFile.FieldType.boolean)) ∈ lw_all := lw_g (lw_at lw_m4 173 rfl) rfl
theorem q938 : (Jvm.Cond.methodLink "java/util/ArrayList" (131 : Nat) ({ cls := "java/util/ArrayList", name := "add", desc := "(Ljava/lang/Object;[Ljava/lang/Object;I)V" } : Jvm.MethodName)) ∈ lw_all := lw_g (lw_at lw_m4 174 rfl) rfl
theorem q939 : (Jvm.Cond.privateMethod ({ cls := "java/util/ArrayList", name := "add", desc := "(Ljava/lang/Object;[Ljava/lang/Object;I)V" } : Jvm.MethodName)) ∈ lw_tbl := lw_at lw_m4 175 rfl
theorem q940 : (Jvm.Cond.instanceMethod ({ cls := "java/util/ArrayList", name := "add", desc := "(Ljava/lang/Object;[Ljava/lang/Object;I)V" } : Jvm.MethodName)) ∈ lw_all := lw_g (lw_at lw_m4 176 rfl) rfl
theorem q941 : (Jvm.Cond.code ({ cls := "java/util/ArrayList", name := "add", desc := "(Ljava/lang/Object;[Ljava/lang/Object;I)V" } : Jvm.MethodName) prog_50_method_24_code (4 : Nat) (Option.none : Option Jvm.ClassFile.FieldType)) ∈ lw_all := lw_g (lw_at lw_m4 177 rfl) rfl
theorem q942 : (Jvm.Cond.methodLink "java/util/ArrayList" (129 : Nat) ({ cls := "java/util/ArrayList", name := "grow", desc := "()[Ljava/lang/Object;" } : Jvm.MethodName)) ∈ lw_all := lw_g (lw_at lw_m4 178 rfl) rfl
theorem q943 : (Jvm.Cond.privateMethod ({ cls := "java/util/ArrayList", name := "grow", desc := "()[Ljava/lang/Object;" } : Jvm.MethodName)) ∈ lw_tbl := lw_at lw_m4 179 rfl
theorem q944 : (Jvm.Cond.instanceMethod ({ cls := "java/util/ArrayList", name := "grow", desc := "()[Ljava/lang/Object;" } : Jvm.MethodName)) ∈ lw_all := lw_g (lw_at lw_m4 180 rfl) rfl
theorem q945 : (Jvm.Cond.code ({ cls := "java/util/ArrayList", name := "grow", desc := "()[Ljava/lang/Object;" } : Jvm.MethodName) prog_50_method_7_code (1 : Nat) (Option.some (Jvm.ClassFile.FieldType.array (Jvm.ClassFile.FieldType.object "java/lang/Object")))) ∈ lw_all := lw_g (lw_at lw_m4 181 rfl) rfl
theorem q946 : (Jvm.Cond.methodLink "java/util/ArrayList" (69 : Nat) ({ cls := "java/util/ArrayList", name := "grow", desc := "(I)[Ljava/lang/Object;" } : Jvm.MethodName)) ∈ lw_all := lw_g (lw_at lw_m4 182 rfl) rfl
theorem q947 : (Jvm.Cond.privateMethod ({ cls := "java/util/ArrayList", name := "grow", desc := "(I)[Ljava/lang/Object;" } : Jvm.MethodName)) ∈ lw_tbl := lw_at lw_m4 183 rfl
theorem q948 : (Jvm.Cond.instanceMethod ({ cls := "java/util/ArrayList", name := "grow", desc := "(I)[Ljava/lang/Object;" } : Jvm.MethodName)) ∈ lw_all := lw_g (lw_at lw_m4 184 rfl) rfl
theorem q949 : (Jvm.Cond.code ({ cls := "java/util/ArrayList", name := "grow", desc := "(I)[Ljava/lang/Object;" } : Jvm.MethodName) prog_50_method_6_code (4 : Nat) (Option.some (Jvm.ClassFile.FieldType.array (Jvm.ClassFile.FieldType.object "java/lang/Object")))) ∈ lw_all := lw_g (lw_at lw_m4 185 rfl) rfl
theorem q950 : (Jvm.Cond.methodLink "java/util/ArrayList" (73 : Nat) ({ cls := "jdk/internal/util/ArraysSupport", name := "newLength", desc := "(III)I" } : Jvm.MethodName)) ∈ lw_all := lw_g (lw_at lw_m4 186 rfl) rfl
theorem q958 : (Jvm.Cond.methodLink "java/util/ArrayList" (66 : Nat) ({ cls := "java/util/Arrays", name := "copyOf", desc := "([Ljava/lang/Object;I)[Ljava/lang/Object;" } : Jvm.MethodName)) ∈ lw_all := lw_g (lw_at lw_m4 194 rfl) rfl
theorem q972 : (Jvm.Cond.methodLink "java/util/ArrayList" (79 : Nat) ({ cls := "java/lang/Math", name := "max", desc := "(II)I" } : Jvm.MethodName)) ∈ lw_all := lw_g (lw_at lw_m4 208 rfl) rfl
theorem q973 : (Jvm.Cond.classLink "java/util/ArrayList" (7 : Nat) "java/lang/Object") ∈ lw_all := lw_g (lw_at lw_m4 209 rfl) rfl
theorem q1086 : (Jvm.Cond.instanceMethod ({ cls := "java/util/ArrayList", name := "remove", desc := "(I)Ljava/lang/Object;" } : Jvm.MethodName)) ∈ lw_all := lw_g (lw_at lw_m5 82 rfl) rfl
theorem q1087 : (Jvm.Cond.selects "java/util/ArrayList" ({ cls := "java/util/ArrayList", name := "remove", desc := "(I)Ljava/lang/Object;" } : Jvm.MethodName) ({ cls := "java/util/ArrayList", name := "remove", desc := "(I)Ljava/lang/Object;" } : Jvm.MethodName)) ∈ lw_all := lw_g (lw_at lw_m5 83 rfl) rfl
theorem q1088 : (Jvm.Cond.code ({ cls := "java/util/ArrayList", name := "remove", desc := "(I)Ljava/lang/Object;" } : Jvm.MethodName) prog_50_method_29_code (4 : Nat) (Option.some (Jvm.ClassFile.FieldType.object "java/lang/Object"))) ∈ lw_all := lw_g (lw_at lw_m5 84 rfl) rfl
theorem q1089 : (Jvm.Cond.methodLink "java/util/ArrayList" (144 : Nat) ({ cls := "java/util/ArrayList", name := "fastRemove", desc := "([Ljava/lang/Object;I)V" } : Jvm.MethodName)) ∈ lw_all := lw_g (lw_at lw_m5 85 rfl) rfl
theorem q1090 : (Jvm.Cond.privateMethod ({ cls := "java/util/ArrayList", name := "fastRemove", desc := "([Ljava/lang/Object;I)V" } : Jvm.MethodName)) ∈ lw_tbl := lw_at lw_m5 86 rfl
theorem q1091 : (Jvm.Cond.instanceMethod ({ cls := "java/util/ArrayList", name := "fastRemove", desc := "([Ljava/lang/Object;I)V" } : Jvm.MethodName)) ∈ lw_all := lw_g (lw_at lw_m5 87 rfl) rfl
theorem q1092 : (Jvm.Cond.code ({ cls := "java/util/ArrayList", name := "fastRemove", desc := "([Ljava/lang/Object;I)V" } : Jvm.MethodName) prog_50_method_39_code (4 : Nat) (Option.none : Option Jvm.ClassFile.FieldType)) ∈ lw_all := lw_g (lw_at lw_m5 88 rfl) rfl
theorem q1093 : (Jvm.Cond.methodLink "java/util/ArrayList" (112 : Nat) ({ cls := "java/lang/System", name := "arraycopy", desc := "(Ljava/lang/Object;ILjava/lang/Object;II)V" } : Jvm.MethodName)) ∈ lw_all := lw_g (lw_at lw_m5 89 rfl) rfl
theorem q1149 : (Jvm.Cond.instanceMethod ({ cls := "java/util/ArrayList", name := "iterator", desc := "()Ljava/util/Iterator;" } : Jvm.MethodName)) ∈ lw_all := lw_g (lw_at lw_m5 145 rfl) rfl
theorem q1150 : (Jvm.Cond.selects "java/util/ArrayList" ({ cls := "java/util/ArrayList", name := "iterator", desc := "()Ljava/util/Iterator;" } : Jvm.MethodName) ({ cls := "java/util/ArrayList", name := "iterator", desc := "()Ljava/util/Iterator;" } : Jvm.MethodName)) ∈ lw_all := lw_g (lw_at lw_m5 146 rfl) rfl
theorem q1151 : (Jvm.Cond.code ({ cls := "java/util/ArrayList", name := "iterator", desc := "()Ljava/util/Iterator;" } : Jvm.MethodName) prog_50_method_55_code (1 : Nat) (Option.some (Jvm.ClassFile.FieldType.object "java/util/Iterator"))) ∈ lw_all := lw_g (lw_at lw_m5 147 rfl) rfl
theorem q1152 : (Jvm.Cond.classLink "java/util/ArrayList" (267 : Nat) "java/util/ArrayList$Itr") ∈ lw_all := lw_g (lw_at lw_m5 148 rfl) rfl
theorem q1154 : (Jvm.Cond.methodLink "java/util/ArrayList" (269 : Nat) ({ cls := "java/util/ArrayList$Itr", name := "<init>", desc := "(Ljava/util/ArrayList;)V" } : Jvm.MethodName)) ∈ lw_all := lw_g (lw_at lw_m5 150 rfl) rfl
theorem q1250 : (Jvm.Cond.instanceMethod ({ cls := "java/util/ArrayList", name := "clear", desc := "()V" } : Jvm.MethodName)) ∈ lw_all := lw_g (lw_at lw_m6 6 rfl) rfl
theorem q1251 : (Jvm.Cond.selects "java/util/ArrayList" ({ cls := "java/util/ArrayList", name := "clear", desc := "()V" } : Jvm.MethodName) ({ cls := "java/util/ArrayList", name := "clear", desc := "()V" } : Jvm.MethodName)) ∈ lw_all := lw_g (lw_at lw_m6 7 rfl) rfl
theorem q1252 : (Jvm.Cond.code ({ cls := "java/util/ArrayList", name := "clear", desc := "()V" } : Jvm.MethodName) prog_50_method_40_code (4 : Nat) (Option.none : Option Jvm.ClassFile.FieldType)) ∈ lw_all := lw_g (lw_at lw_m6 8 rfl) rfl
theorem q1491 : (Jvm.Cond.instanceMethod ({ cls := "java/util/ArrayList", name := "isEmpty", desc := "()Z" } : Jvm.MethodName)) ∈ lw_all := lw_g (lw_at lw_m7 7 rfl) rfl
theorem q1492 : (Jvm.Cond.selects "java/util/ArrayList" ({ cls := "java/util/ArrayList", name := "isEmpty", desc := "()Z" } : Jvm.MethodName) ({ cls := "java/util/ArrayList", name := "isEmpty", desc := "()Z" } : Jvm.MethodName)) ∈ lw_all := lw_g (lw_at lw_m7 8 rfl) rfl
theorem q1493 : (Jvm.Cond.code ({ cls := "java/util/ArrayList", name := "isEmpty", desc := "()Z" } : Jvm.MethodName) prog_50_method_9_code (1 : Nat) (Option.some Jvm.ClassFile.FieldType.boolean)) ∈ lw_all := lw_g (lw_at lw_m7 9 rfl) rfl
theorem q1544 : (Jvm.Cond.instanceMethod ({ cls := "java/util/ArrayList", name := "remove", desc := "(Ljava/lang/Object;)Z" } : Jvm.MethodName)) ∈ lw_all := lw_g (lw_at lw_m7 60 rfl) rfl
theorem q1545 : (Jvm.Cond.selects "java/util/ArrayList" ({ cls := "java/util/ArrayList", name := "remove", desc := "(Ljava/lang/Object;)Z" } : Jvm.MethodName) ({ cls := "java/util/ArrayList", name := "remove", desc := "(Ljava/lang/Object;)Z" } : Jvm.MethodName)) ∈ lw_all := lw_g (lw_at lw_m7 61 rfl) rfl
theorem q1546 : (Jvm.Cond.code ({ cls := "java/util/ArrayList", name := "remove", desc := "(Ljava/lang/Object;)Z" } : Jvm.MethodName) prog_50_method_38_code (5 : Nat) (Option.some Jvm.ClassFile.FieldType.boolean)) ∈ lw_all := lw_g (lw_at lw_m7 62 rfl) rfl
theorem q1547 : (Jvm.Cond.methodLink "java/util/ArrayList" (93 : Nat) ({ cls := "java/lang/Object", name := "equals", desc := "(Ljava/lang/Object;)Z" } : Jvm.MethodName)) ∈ lw_all := lw_g (lw_at lw_m7 63 rfl) rfl
theorem q2641 : (Jvm.Cond.castable "java/util/ArrayList" "java/lang/Object") ∈ lw_tbl := lw_at lw_m11 197 rfl
theorem in_J2 : ∀ w ∈ wsJ20, w ∈ lw_all := lw_in wsJ20 [145, 141, 143] (by decide +kernel) (by decide +kernel)
/-! java/lang/Math -/
set_option maxRecDepth 100000
def RJ3 : String := "java/lang/Math"
abbrev cJ3_min : ByteArray := prog_38_method_69_code
def yJ3_min : MethodName := ⟨RJ3, "min", "(II)I"⟩
def dkwJ3_min_0 : List UInt8 := [26, 27, 163, 0, 7, 26, 167, 0, 4, 27, 172]
abbrev dktJ3_min_0 : List UInt8 := dkwJ3_min_0 ++ []
theorem dksJ3_min_0 : cJ3_min.data.toList.drop 0 = dktJ3_min_0 := by decide +kernel
theorem dJ3_min_0 : decode cJ3_min 0 = .ok (.iload_n 0, 1) := dk_26 (dk_at dksJ3_min_0 0 rfl rfl)
theorem dJ3_min_1 : decode cJ3_min 1 = .ok (.iload_n 1, 1) := dk_27 (dk_at dksJ3_min_0 1 rfl rfl)
theorem dJ3_min_2 : decode cJ3_min 2 = .ok (.if_icmp .gt 7, 3) := dk_163 0 7 (dk_at dksJ3_min_0 2 rfl rfl)
theorem dJ3_min_5 : decode cJ3_min 5 = .ok (.iload_n 0, 1) := dk_26 (dk_at dksJ3_min_0 5 rfl rfl)
theorem dJ3_min_6 : decode cJ3_min 6 = .ok (.goto 4, 3) := dk_167 0 4 (dk_at dksJ3_min_0 6 rfl rfl)
theorem dJ3_min_9 : decode cJ3_min 9 = .ok (.iload_n 1, 1) := dk_27 (dk_at dksJ3_min_0 9 rfl rfl)
theorem dJ3_min_10 : decode cJ3_min 10 = .ok (.ireturn, 1) := dk_172 (dk_at dksJ3_min_0 10 rfl rfl)
abbrev cJ3_max : ByteArray := prog_38_method_65_code
def yJ3_max : MethodName := ⟨RJ3, "max", "(II)I"⟩
def dkwJ3_max_0 : List UInt8 := [26, 27, 161, 0, 7, 26, 167, 0, 4, 27, 172]
abbrev dktJ3_max_0 : List UInt8 := dkwJ3_max_0 ++ []
theorem dksJ3_max_0 : cJ3_max.data.toList.drop 0 = dktJ3_max_0 := by decide +kernel
theorem dJ3_max_0 : decode cJ3_max 0 = .ok (.iload_n 0, 1) := dk_26 (dk_at dksJ3_max_0 0 rfl rfl)
theorem dJ3_max_1 : decode cJ3_max 1 = .ok (.iload_n 1, 1) := dk_27 (dk_at dksJ3_max_0 1 rfl rfl)
theorem dJ3_max_2 : decode cJ3_max 2 = .ok (.if_icmp .lt 7, 3) := dk_161 0 7 (dk_at dksJ3_max_0 2 rfl rfl)
theorem dJ3_max_5 : decode cJ3_max 5 = .ok (.iload_n 0, 1) := dk_26 (dk_at dksJ3_max_0 5 rfl rfl)
theorem dJ3_max_6 : decode cJ3_max 6 = .ok (.goto 4, 3) := dk_167 0 4 (dk_at dksJ3_max_0 6 rfl rfl)
theorem dJ3_max_9 : decode cJ3_max 9 = .ok (.iload_n 1, 1) := dk_27 (dk_at dksJ3_max_0 9 rfl rfl)
theorem dJ3_max_10 : decode cJ3_max 10 = .ok (.ireturn, 1) := dk_172 (dk_at dksJ3_max_0 10 rfl rfl)
theorem q49 : (Jvm.Cond.initialized "java/lang/Math") ∈ lw_all := lw_g (lw_at lw_m1 5 rfl) rfl
theorem q149 : (Jvm.Cond.static ({ cls := "java/lang/Math", name := "min", desc := "(II)I" } : Jvm.MethodName)) ∈ lw_all := lw_g (lw_at lw_m1 105 rfl) rfl
theorem q150 : (Jvm.Cond.code ({ cls := "java/lang/Math", name := "min", desc := "(II)I" } : Jvm.MethodName) prog_38_method_69_code (2 : Nat) (Option.some Jvm.ClassFile.FieldType.int)) ∈ lw_all := lw_g (lw_at lw_m1 106 rfl) rfl
theorem q152 : (Jvm.Cond.static ({ cls := "java/lang/Math", name := "max", desc := "(II)I" } : Jvm.MethodName)) ∈ lw_all := lw_g (lw_at lw_m1 108 rfl) rfl
theorem q153 : (Jvm.Cond.code ({ cls := "java/lang/Math", name := "max", desc := "(II)I" } : Jvm.MethodName) prog_38_method_65_code (2 : Nat) (Option.some Jvm.ClassFile.FieldType.int)) ∈ lw_all := lw_g (lw_at lw_m1 109 rfl) rfl
/-! java/lang/Throwable -/
set_option maxRecDepth 100000
def RJ4 : String := "java/lang/Throwable"
def TJ4 : u_T := fun k => match k with
  | 0 => ("java/lang/Throwable", "cause", "Ljava/lang/Throwable;", false)
  | 1 => ("java/lang/Throwable", "stackTrace", "[Ljava/lang/StackTraceElement;", false)
  | 2 => ("java/lang/Throwable", "suppressedExceptions", "Ljava/util/List;", false)
  | 3 => ("java/lang/Throwable", "detailMessage", "Ljava/lang/String;", false)
  | _ => ("java/lang/Throwable", "backtrace", "Ljava/lang/Object;", false)
def tyJ4 : Nat → FieldType := fun k => match k with
  | 0 => .object "java/lang/Throwable"
  | 1 => .array (.object "java/lang/StackTraceElement")
  | 2 => .object "java/util/List"
  | 3 => .object "java/lang/String"
  | _ => .object "java/lang/Object"
abbrev wsJ40 : List Cond := u_ws RJ4 TJ4 5
theorem nmJ4 : ∀ a, a < 5 → ∀ b, b < 5 → a ≠ b → (TJ4 a).2.1 ≠ (TJ4 b).2.1 := by decide +kernel
theorem tyJ4_ok : ∀ k, k < 5 → parseFieldDescriptor (TJ4 k).2.2.1 = some (tyJ4 k) := by decide +kernel
abbrev cJ4_init : ByteArray := prog_43_method_2_code
def yJ4_init : MethodName := ⟨RJ4, "<init>", "(Ljava/lang/String;)V"⟩
def dkwJ4_init_1 : List UInt8 := [182, 0, 27, 87, 42, 43, 181, 0, 31, 177]
abbrev dktJ4_init_1 : List UInt8 := dkwJ4_init_1 ++ []
def dkwJ4_init_0 : List UInt8 := [42, 183, 0, 1, 42, 42, 181, 0, 7, 42, 178, 0, 13, 181, 0, 17, 42, 178, 0, 20, 181, 0, 24, 42]
abbrev dktJ4_init_0 : List UInt8 := dkwJ4_init_0 ++ dktJ4_init_1
theorem dksJ4_init_0 : cJ4_init.data.toList.drop 0 = dktJ4_init_0 := by decide +kernel
theorem dksJ4_init_1 : cJ4_init.data.toList.drop 24 = dktJ4_init_1 := dk_seg dksJ4_init_0 24 rfl rfl
theorem dJ4_init_0 : decode cJ4_init 0 = .ok (.aload_n 0, 1) := dk_42 (dk_at dksJ4_init_0 0 rfl rfl)
theorem dJ4_init_1 : decode cJ4_init 1 = .ok (.invokespecial 1, 3) := dk_183 0 1 (dk_at dksJ4_init_0 1 rfl rfl)
theorem dJ4_init_4 : decode cJ4_init 4 = .ok (.aload_n 0, 1) := dk_42 (dk_at dksJ4_init_0 4 rfl rfl)
theorem dJ4_init_5 : decode cJ4_init 5 = .ok (.aload_n 0, 1) := dk_42 (dk_at dksJ4_init_0 5 rfl rfl)
theorem dJ4_init_6 : decode cJ4_init 6 = .ok (.putfield 7, 3) := dk_181 0 7 (dk_at dksJ4_init_0 6 rfl rfl)
theorem dJ4_init_9 : decode cJ4_init 9 = .ok (.aload_n 0, 1) := dk_42 (dk_at dksJ4_init_0 9 rfl rfl)
theorem dJ4_init_10 : decode cJ4_init 10 = .ok (.getstatic 13, 3) := dk_178 0 13 (dk_at dksJ4_init_0 10 rfl rfl)
theorem dJ4_init_13 : decode cJ4_init 13 = .ok (.putfield 17, 3) := dk_181 0 17 (dk_at dksJ4_init_0 13 rfl rfl)
theorem dJ4_init_16 : decode cJ4_init 16 = .ok (.aload_n 0, 1) := dk_42 (dk_at dksJ4_init_0 16 rfl rfl)
theorem dJ4_init_17 : decode cJ4_init 17 = .ok (.getstatic 20, 3) := dk_178 0 20 (dk_at dksJ4_init_0 17 rfl rfl)
theorem dJ4_init_20 : decode cJ4_init 20 = .ok (.putfield 24, 3) := dk_181 0 24 (dk_at dksJ4_init_0 20 rfl rfl)
theorem dJ4_init_23 : decode cJ4_init 23 = .ok (.aload_n 0, 1) := dk_42 (dk_at dksJ4_init_0 23 rfl rfl)
theorem dJ4_init_24 : decode cJ4_init 24 = .ok (.invokevirtual 27, 3) := dk_182 0 27 (dk_at dksJ4_init_1 0 rfl rfl)
theorem dJ4_init_27 : decode cJ4_init 27 = .ok (.pop, 1) := dk_87 (dk_at dksJ4_init_1 3 rfl rfl)
theorem dJ4_init_28 : decode cJ4_init 28 = .ok (.aload_n 0, 1) := dk_42 (dk_at dksJ4_init_1 4 rfl rfl)
theorem dJ4_init_29 : decode cJ4_init 29 = .ok (.aload_n 1, 1) := dk_43 (dk_at dksJ4_init_1 5 rfl rfl)
theorem dJ4_init_30 : decode cJ4_init 30 = .ok (.putfield 31, 3) := dk_181 0 31 (dk_at dksJ4_init_1 6 rfl rfl)
theorem dJ4_init_33 : decode cJ4_init 33 = .ok (.return_, 1) := dk_177 (dk_at dksJ4_init_1 9 rfl rfl)
abbrev cJ4_init_2 : ByteArray := prog_43_method_1_code
def yJ4_init_2 : MethodName := ⟨RJ4, "<init>", "()V"⟩
def dkwJ4_init_2_1 : List UInt8 := [182, 0, 27, 87, 177]
abbrev dktJ4_init_2_1 : List UInt8 := dkwJ4_init_2_1 ++ []
def dkwJ4_init_2_0 : List UInt8 := [42, 183, 0, 1, 42, 42, 181, 0, 7, 42, 178, 0, 13, 181, 0, 17, 42, 178, 0, 20, 181, 0, 24, 42]
abbrev dktJ4_init_2_0 : List UInt8 := dkwJ4_init_2_0 ++ dktJ4_init_2_1
theorem dksJ4_init_2_0 : cJ4_init_2.data.toList.drop 0 = dktJ4_init_2_0 := by decide +kernel
theorem dksJ4_init_2_1 : cJ4_init_2.data.toList.drop 24 = dktJ4_init_2_1 := dk_seg dksJ4_init_2_0 24 rfl rfl
theorem dJ4_init_2_0 : decode cJ4_init_2 0 = .ok (.aload_n 0, 1) := dk_42 (dk_at dksJ4_init_2_0 0 rfl rfl)
theorem dJ4_init_2_1 : decode cJ4_init_2 1 = .ok (.invokespecial 1, 3) := dk_183 0 1 (dk_at dksJ4_init_2_0 1 rfl rfl)
theorem dJ4_init_2_4 : decode cJ4_init_2 4 = .ok (.aload_n 0, 1) := dk_42 (dk_at dksJ4_init_2_0 4 rfl rfl)
theorem dJ4_init_2_5 : decode cJ4_init_2 5 = .ok (.aload_n 0, 1) := dk_42 (dk_at dksJ4_init_2_0 5 rfl rfl)
theorem dJ4_init_2_6 : decode cJ4_init_2 6 = .ok (.putfield 7, 3) := dk_181 0 7 (dk_at dksJ4_init_2_0 6 rfl rfl)
theorem dJ4_init_2_9 : decode cJ4_init_2 9 = .ok (.aload_n 0, 1) := dk_42 (dk_at dksJ4_init_2_0 9 rfl rfl)
theorem dJ4_init_2_10 : decode cJ4_init_2 10 = .ok (.getstatic 13, 3) := dk_178 0 13 (dk_at dksJ4_init_2_0 10 rfl rfl)
theorem dJ4_init_2_13 : decode cJ4_init_2 13 = .ok (.putfield 17, 3) := dk_181 0 17 (dk_at dksJ4_init_2_0 13 rfl rfl)
theorem dJ4_init_2_16 : decode cJ4_init_2 16 = .ok (.aload_n 0, 1) := dk_42 (dk_at dksJ4_init_2_0 16 rfl rfl)
theorem dJ4_init_2_17 : decode cJ4_init_2 17 = .ok (.getstatic 20, 3) := dk_178 0 20 (dk_at dksJ4_init_2_0 17 rfl rfl)
theorem dJ4_init_2_20 : decode cJ4_init_2 20 = .ok (.putfield 24, 3) := dk_181 0 24 (dk_at dksJ4_init_2_0 20 rfl rfl)
theorem dJ4_init_2_23 : decode cJ4_init_2 23 = .ok (.aload_n 0, 1) := dk_42 (dk_at dksJ4_init_2_0 23 rfl rfl)
theorem dJ4_init_2_24 : decode cJ4_init_2 24 = .ok (.invokevirtual 27, 3) := dk_182 0 27 (dk_at dksJ4_init_2_1 0 rfl rfl)
theorem dJ4_init_2_27 : decode cJ4_init_2 27 = .ok (.pop, 1) := dk_87 (dk_at dksJ4_init_2_1 3 rfl rfl)
theorem dJ4_init_2_28 : decode cJ4_init_2 28 = .ok (.return_, 1) := dk_177 (dk_at dksJ4_init_2_1 4 rfl rfl)
abbrev cJ4_init_3 : ByteArray := prog_43_method_3_code
def yJ4_init_3 : MethodName := ⟨RJ4, "<init>", "(Ljava/lang/String;Ljava/lang/Throwable;)V"⟩
def dkwJ4_init_3_1 : List UInt8 := [182, 0, 27, 87, 42, 43, 181, 0, 31, 42, 44, 181, 0, 7, 177]
abbrev dktJ4_init_3_1 : List UInt8 := dkwJ4_init_3_1 ++ []
def dkwJ4_init_3_0 : List UInt8 := [42, 183, 0, 1, 42, 42, 181, 0, 7, 42, 178, 0, 13, 181, 0, 17, 42, 178, 0, 20, 181, 0, 24, 42]
abbrev dktJ4_init_3_0 : List UInt8 := dkwJ4_init_3_0 ++ dktJ4_init_3_1
theorem dksJ4_init_3_0 : cJ4_init_3.data.toList.drop 0 = dktJ4_init_3_0 := by decide +kernel
theorem dksJ4_init_3_1 : cJ4_init_3.data.toList.drop 24 = dktJ4_init_3_1 := dk_seg dksJ4_init_3_0 24 rfl rfl
theorem dJ4_init_3_0 : decode cJ4_init_3 0 = .ok (.aload_n 0, 1) := dk_42 (dk_at dksJ4_init_3_0 0 rfl rfl)
theorem dJ4_init_3_1 : decode cJ4_init_3 1 = .ok (.invokespecial 1, 3) := dk_183 0 1 (dk_at dksJ4_init_3_0 1 rfl rfl)
theorem dJ4_init_3_4 : decode cJ4_init_3 4 = .ok (.aload_n 0, 1) := dk_42 (dk_at dksJ4_init_3_0 4 rfl rfl)
theorem dJ4_init_3_5 : decode cJ4_init_3 5 = .ok (.aload_n 0, 1) := dk_42 (dk_at dksJ4_init_3_0 5 rfl rfl)
theorem dJ4_init_3_6 : decode cJ4_init_3 6 = .ok (.putfield 7, 3) := dk_181 0 7 (dk_at dksJ4_init_3_0 6 rfl rfl)
theorem dJ4_init_3_9 : decode cJ4_init_3 9 = .ok (.aload_n 0, 1) := dk_42 (dk_at dksJ4_init_3_0 9 rfl rfl)
theorem dJ4_init_3_10 : decode cJ4_init_3 10 = .ok (.getstatic 13, 3) := dk_178 0 13 (dk_at dksJ4_init_3_0 10 rfl rfl)
theorem dJ4_init_3_13 : decode cJ4_init_3 13 = .ok (.putfield 17, 3) := dk_181 0 17 (dk_at dksJ4_init_3_0 13 rfl rfl)
theorem dJ4_init_3_16 : decode cJ4_init_3 16 = .ok (.aload_n 0, 1) := dk_42 (dk_at dksJ4_init_3_0 16 rfl rfl)
theorem dJ4_init_3_17 : decode cJ4_init_3 17 = .ok (.getstatic 20, 3) := dk_178 0 20 (dk_at dksJ4_init_3_0 17 rfl rfl)
theorem dJ4_init_3_20 : decode cJ4_init_3 20 = .ok (.putfield 24, 3) := dk_181 0 24 (dk_at dksJ4_init_3_0 20 rfl rfl)
theorem dJ4_init_3_23 : decode cJ4_init_3 23 = .ok (.aload_n 0, 1) := dk_42 (dk_at dksJ4_init_3_0 23 rfl rfl)
theorem dJ4_init_3_24 : decode cJ4_init_3 24 = .ok (.invokevirtual 27, 3) := dk_182 0 27 (dk_at dksJ4_init_3_1 0 rfl rfl)
theorem dJ4_init_3_27 : decode cJ4_init_3 27 = .ok (.pop, 1) := dk_87 (dk_at dksJ4_init_3_1 3 rfl rfl)
theorem dJ4_init_3_28 : decode cJ4_init_3 28 = .ok (.aload_n 0, 1) := dk_42 (dk_at dksJ4_init_3_1 4 rfl rfl)
theorem dJ4_init_3_29 : decode cJ4_init_3 29 = .ok (.aload_n 1, 1) := dk_43 (dk_at dksJ4_init_3_1 5 rfl rfl)
theorem dJ4_init_3_30 : decode cJ4_init_3 30 = .ok (.putfield 31, 3) := dk_181 0 31 (dk_at dksJ4_init_3_1 6 rfl rfl)
theorem dJ4_init_3_33 : decode cJ4_init_3 33 = .ok (.aload_n 0, 1) := dk_42 (dk_at dksJ4_init_3_1 9 rfl rfl)
theorem dJ4_init_3_34 : decode cJ4_init_3 34 = .ok (.aload_n 2, 1) := dk_44 (dk_at dksJ4_init_3_1 10 rfl rfl)
theorem dJ4_init_3_35 : decode cJ4_init_3 35 = .ok (.putfield 7, 3) := dk_181 0 7 (dk_at dksJ4_init_3_1 11 rfl rfl)
theorem dJ4_init_3_38 : decode cJ4_init_3 38 = .ok (.return_, 1) := dk_177 (dk_at dksJ4_init_3_1 14 rfl rfl)
theorem q58 : (Jvm.Cond.initialized "java/lang/Throwable") ∈ lw_all := lw_g (lw_at lw_m1 14 rfl) rfl
theorem q798 : (Jvm.Cond.instanceMethod ({ cls := "java/lang/Throwable", name := "<init>", desc := "(Ljava/lang/String;)V" } : Jvm.MethodName)) ∈ lw_all := lw_g (lw_at lw_m4 34 rfl) rfl
theorem q799 : (Jvm.Cond.code ({ cls := "java/lang/Throwable", name := "<init>", desc := "(Ljava/lang/String;)V" } : Jvm.MethodName) prog_43_method_2_code (2 : Nat) (Option.none : Option Jvm.ClassFile.FieldType)) ∈ lw_all := lw_g (lw_at lw_m4 35 rfl) rfl
theorem q800 : (Jvm.Cond.methodLink "java/lang/Throwable" (1 : Nat) ({ cls := "java/lang/Object", name := "<init>", desc := "()V" } : Jvm.MethodName)) ∈ lw_all := lw_g (lw_at lw_m4 36 rfl) rfl
theorem q801 : (Jvm.Cond.fieldLink "java/lang/Throwable" (13 : Nat) "java/lang/Throwable" "UNASSIGNED_STACK" "[Ljava/lang/StackTraceElement;") ∈ lw_all := lw_g (lw_at lw_m4 37 rfl) rfl
theorem q802 : (Jvm.Cond.laysStatic "java/lang/Throwable" "UNASSIGNED_STACK" "[Ljava/lang/StackTraceElement;") ∈ lw_tbl := lw_at lw_m4 38 rfl
theorem q803 : (Jvm.Cond.fieldLink "java/lang/Throwable" (20 : Nat) "java/lang/Throwable" "SUPPRESSED_SENTINEL" "Ljava/util/List;") ∈ lw_all := lw_g (lw_at lw_m4 39 rfl) rfl
theorem q804 : (Jvm.Cond.laysStatic "java/lang/Throwable" "SUPPRESSED_SENTINEL" "Ljava/util/List;") ∈ lw_tbl := lw_at lw_m4 40 rfl
theorem q805 : (Jvm.Cond.methodLink "java/lang/Throwable" (27 : Nat) ({ cls := "java/lang/Throwable", name := "fillInStackTrace", desc := "()Ljava/lang/Throwable;" } : Jvm.MethodName)) ∈ lw_all := lw_g (lw_at lw_m4 41 rfl) rfl
theorem q806 : (Jvm.Cond.instanceMethod ({ cls := "java/lang/Throwable", name := "fillInStackTrace", desc := "()Ljava/lang/Throwable;" } : Jvm.MethodName)) ∈ lw_all := lw_g (lw_at lw_m4 42 rfl) rfl
theorem q807 : (Jvm.Cond.sameMethod "java/lang/Throwable" "java/lang/Throwable" "fillInStackTrace" "()Ljava/lang/Throwable;") ∈ lw_all := lw_g (lw_at lw_m4 43 rfl) rfl
theorem q816 : (Jvm.Cond.codeSync ({ cls := "java/lang/Throwable", name := "fillInStackTrace", desc := "()Ljava/lang/Throwable;" } : Jvm.MethodName) prog_43_method_18_code (1 : Nat) (Option.some (Jvm.ClassFile.FieldType.object "java/lang/Throwable"))) ∈ lw_all := lw_g (lw_at lw_m4 52 rfl) rfl
theorem q817 : (Jvm.Cond.methodLink "java/lang/Throwable" (202 : Nat) ({ cls := "java/lang/Throwable", name := "fillInStackTrace", desc := "(I)Ljava/lang/Throwable;" } : Jvm.MethodName)) ∈ lw_all := lw_g (lw_at lw_m4 53 rfl) rfl
theorem q818 : (Jvm.Cond.privateMethod ({ cls := "java/lang/Throwable", name := "fillInStackTrace", desc := "(I)Ljava/lang/Throwable;" } : Jvm.MethodName)) ∈ lw_tbl := lw_at lw_m4 54 rfl
theorem q819 : (Jvm.Cond.instanceMethod ({ cls := "java/lang/Throwable", name := "fillInStackTrace", desc := "(I)Ljava/lang/Throwable;" } : Jvm.MethodName)) ∈ lw_all := lw_g (lw_at lw_m4 55 rfl) rfl
theorem q820 : (Jvm.Cond.instantiable "java/lang/Throwable" (6 : Nat)) ∈ lw_all := lw_g (lw_at lw_m4 56 rfl) rfl
theorem q821 : (Jvm.Cond.native ({ cls := "java/lang/Throwable", name := "fillInStackTrace", desc := "(I)Ljava/lang/Throwable;" } : Jvm.MethodName)) ∈ lw_all := lw_g (lw_at lw_m4 57 rfl) rfl
theorem q822 : (Jvm.Cond.fieldLink "java/lang/Throwable" (198 : Nat) "java/lang/Throwable" "backtrace" "Ljava/lang/Object;") ∈ lw_all := lw_g (lw_at lw_m4 58 rfl) rfl
theorem q823 : (Jvm.Cond.fieldLink "java/lang/Throwable" (31 : Nat) "java/lang/Throwable" "detailMessage" "Ljava/lang/String;") ∈ lw_all := lw_g (lw_at lw_m4 59 rfl) rfl
theorem q824 : (Jvm.Cond.fieldLink "java/lang/Throwable" (7 : Nat) "java/lang/Throwable" "cause" "Ljava/lang/Throwable;") ∈ lw_all := lw_g (lw_at lw_m4 60 rfl) rfl
theorem q825 : (Jvm.Cond.fieldLink "java/lang/Throwable" (17 : Nat) "java/lang/Throwable" "stackTrace" "[Ljava/lang/StackTraceElement;") ∈ lw_all := lw_g (lw_at lw_m4 61 rfl) rfl
theorem q826 : (Jvm.Cond.fieldLink "java/lang/Throwable" (24 : Nat) "java/lang/Throwable" "suppressedExceptions" "Ljava/util/List;") ∈ lw_all := lw_g (lw_at lw_m4 62 rfl) rfl
theorem q828 : (Jvm.Cond.soleField "java/lang/Throwable" "backtrace") ∈ lw_all := lw_g (lw_at lw_m4 64 rfl) rfl
theorem q830 : (Jvm.Cond.soleField "java/lang/Throwable" "detailMessage") ∈ lw_all := lw_g (lw_at lw_m4 66 rfl) rfl
theorem q832 : (Jvm.Cond.soleField "java/lang/Throwable" "cause") ∈ lw_all := lw_g (lw_at lw_m4 68 rfl) rfl
theorem q834 : (Jvm.Cond.soleField "java/lang/Throwable" "stackTrace") ∈ lw_all := lw_g (lw_at lw_m4 70 rfl) rfl
theorem q836 : (Jvm.Cond.soleField "java/lang/Throwable" "depth") ∈ lw_all := lw_g (lw_at lw_m4 72 rfl) rfl
theorem q838 : (Jvm.Cond.soleField "java/lang/Throwable" "suppressedExceptions") ∈ lw_all := lw_g (lw_at lw_m4 74 rfl) rfl
theorem q847 : (Jvm.Cond.declares ({ cls := "java/lang/Throwable", name := "<init>", desc := "()V" } : Jvm.MethodName)) ∈ lw_tbl := lw_at lw_m4 83 rfl
theorem q848 : (Jvm.Cond.declares ({ cls := "java/lang/Throwable", name := "<init>", desc := "(Ljava/lang/String;)V" } : Jvm.MethodName)) ∈ lw_tbl := lw_at lw_m4 84 rfl
theorem q850 : (Jvm.Cond.lays "java/lang/Throwable" "java/lang/Throwable" "cause" "Ljava/lang/Throwable;") ∈ lw_all := lw_g (lw_at lw_m4 86 rfl) rfl
theorem q851 : (Jvm.Cond.lays "java/lang/Throwable" "java/lang/Throwable" "stackTrace" "[Ljava/lang/StackTraceElement;") ∈ lw_all := lw_g (lw_at lw_m4 87 rfl) rfl
theorem q852 : (Jvm.Cond.lays "java/lang/Throwable" "java/lang/Throwable" "suppressedExceptions" "Ljava/util/List;") ∈ lw_all := lw_g (lw_at lw_m4 88 rfl) rfl
theorem q853 : (Jvm.Cond.lays "java/lang/Throwable" "java/lang/Throwable" "detailMessage" "Ljava/lang/String;") ∈ lw_all := lw_g (lw_at lw_m4 89 rfl) rfl
theorem q854 : (Jvm.Cond.lays "java/lang/Throwable" "java/lang/Throwable" "backtrace" "Ljava/lang/Object;") ∈ lw_all := lw_g (lw_at lw_m4 90 rfl) rfl
theorem q855 : (Jvm.Cond.fieldLink "java/lang/Throwable" (198 : Nat) "java/lang/Throwable" "backtrace" "Ljava/lang/Object;") ∈ lw_all := lw_g (lw_at lw_m4 91 rfl) rfl
theorem q856 : (Jvm.Cond.superclass "java/lang/Throwable" "java/lang/Object") ∈ lw_all := lw_g (lw_at lw_m4 92 rfl) rfl
theorem q857 : (Jvm.Cond.instanceMethod ({ cls := "java/lang/Throwable", name := "<init>", desc := "()V" } : Jvm.MethodName)) ∈ lw_all := lw_g (lw_at lw_m4 93 rfl) rfl
theorem q858 : (Jvm.Cond.code ({ cls := "java/lang/Throwable", name := "<init>", desc := "()V" } : Jvm.MethodName) prog_43_method_1_code (1 : Nat) (Option.none : Option Jvm.ClassFile.FieldType)) ∈ lw_all := lw_g (lw_at lw_m4 94 rfl) rfl
theorem q1610 : (Jvm.Cond.instanceMethod ({ cls := "java/lang/Throwable", name := "<init>", desc := "(Ljava/lang/String;Ljava/lang/Throwable;)V" } : Jvm.MethodName)) ∈ lw_all := lw_g (lw_at lw_m7 126 rfl) rfl
theorem q1611 : (Jvm.Cond.code ({ cls := "java/lang/Throwable", name := "<init>", desc := "(Ljava/lang/String;Ljava/lang/Throwable;)V" } : Jvm.MethodName) prog_43_method_3_code (3 : Nat) (Option.none : Option Jvm.ClassFile.FieldType)) ∈ lw_all := lw_g (lw_at lw_m7 127 rfl) rfl
theorem q1638 : (Jvm.Cond.declares ({ cls := "java/lang/Throwable", name := "getCause", desc := "()Ljava/lang/Throwable;" } : Jvm.MethodName)) ∈ lw_tbl := lw_at lw_m7 154 rfl
theorem q1640 : (Jvm.Cond.instanceMethod ({ cls := "java/lang/Throwable", name := "getCause", desc := "()Ljava/lang/Throwable;" } : Jvm.MethodName)) ∈ lw_all := lw_g (lw_at lw_m7 156 rfl) rfl
theorem q1641 : (Jvm.Cond.codeSync ({ cls := "java/lang/Throwable", name := "getCause", desc := "()Ljava/lang/Throwable;" } : Jvm.MethodName) prog_43_method_8_code (1 : Nat) (Option.some (Jvm.ClassFile.FieldType.object "java/lang/Throwable"))) ∈ lw_all := lw_g (lw_at lw_m7 157 rfl) rfl
theorem q2628 : (Jvm.Cond.sameMethod "java/lang/Throwable" "java/lang/Throwable" "fillInStackTrace" "(I)Ljava/lang/Throwable;") ∈ lw_all := lw_g (lw_at lw_m11 184 rfl) rfl
theorem q2671 : (Jvm.Cond.castable "java/lang/Throwable" "java/lang/Object") ∈ lw_tbl := lw_at lw_m11 227 rfl
theorem in_J4 : ∀ w ∈ wsJ40, w ∈ lw_all := lw_in wsJ40 [850, 851, 852, 853, 854] (by decide +kernel) (by decide +kernel)
/-! java/lang/Exception -/
set_option maxRecDepth 100000
def RJ5 : String := "java/lang/Exception"
abbrev cJ5_init : ByteArray := prog_31_method_2_code
def yJ5_init : MethodName := ⟨RJ5, "<init>", "(Ljava/lang/String;)V"⟩
def dkwJ5_init_0 : List UInt8 := [42, 43, 183, 0, 7, 177]
abbrev dktJ5_init_0 : List UInt8 := dkwJ5_init_0 ++ []
theorem dksJ5_init_0 : cJ5_init.data.toList.drop 0 = dktJ5_init_0 := by decide +kernel
theorem dJ5_init_0 : decode cJ5_init 0 = .ok (.aload_n 0, 1) := dk_42 (dk_at dksJ5_init_0 0 rfl rfl)
theorem dJ5_init_1 : decode cJ5_init 1 = .ok (.aload_n 1, 1) := dk_43 (dk_at dksJ5_init_0 1 rfl rfl)
theorem dJ5_init_2 : decode cJ5_init 2 = .ok (.invokespecial 7, 3) := dk_183 0 7 (dk_at dksJ5_init_0 2 rfl rfl)
theorem dJ5_init_5 : decode cJ5_init 5 = .ok (.return_, 1) := dk_177 (dk_at dksJ5_init_0 5 rfl rfl)
abbrev cJ5_init_2 : ByteArray := prog_31_method_1_code
def yJ5_init_2 : MethodName := ⟨RJ5, "<init>", "()V"⟩
theorem dJ5_init_2_0 : decode cJ5_init_2 0 = .ok (.aload_n 0, 1) := by decide +kernel
theorem dJ5_init_2_1 : decode cJ5_init_2 1 = .ok (.invokespecial 1, 3) := by decide +kernel
theorem dJ5_init_2_4 : decode cJ5_init_2 4 = .ok (.return_, 1) := by decide +kernel
abbrev cJ5_init_3 : ByteArray := prog_31_method_3_code
def yJ5_init_3 : MethodName := ⟨RJ5, "<init>", "(Ljava/lang/String;Ljava/lang/Throwable;)V"⟩
def dkwJ5_init_3_0 : List UInt8 := [42, 43, 44, 183, 0, 10, 177]
abbrev dktJ5_init_3_0 : List UInt8 := dkwJ5_init_3_0 ++ []
theorem dksJ5_init_3_0 : cJ5_init_3.data.toList.drop 0 = dktJ5_init_3_0 := by decide +kernel
theorem dJ5_init_3_0 : decode cJ5_init_3 0 = .ok (.aload_n 0, 1) := dk_42 (dk_at dksJ5_init_3_0 0 rfl rfl)
theorem dJ5_init_3_1 : decode cJ5_init_3 1 = .ok (.aload_n 1, 1) := dk_43 (dk_at dksJ5_init_3_0 1 rfl rfl)
theorem dJ5_init_3_2 : decode cJ5_init_3 2 = .ok (.aload_n 2, 1) := dk_44 (dk_at dksJ5_init_3_0 2 rfl rfl)
theorem dJ5_init_3_3 : decode cJ5_init_3 3 = .ok (.invokespecial 10, 3) := dk_183 0 10 (dk_at dksJ5_init_3_0 3 rfl rfl)
theorem dJ5_init_3_6 : decode cJ5_init_3 6 = .ok (.return_, 1) := dk_177 (dk_at dksJ5_init_3_0 6 rfl rfl)
theorem q59 : (Jvm.Cond.initialized "java/lang/Exception") ∈ lw_all := lw_g (lw_at lw_m1 15 rfl) rfl
theorem q795 : (Jvm.Cond.instanceMethod ({ cls := "java/lang/Exception", name := "<init>", desc := "(Ljava/lang/String;)V" } : Jvm.MethodName)) ∈ lw_all := lw_g (lw_at lw_m4 31 rfl) rfl
theorem q796 : (Jvm.Cond.code ({ cls := "java/lang/Exception", name := "<init>", desc := "(Ljava/lang/String;)V" } : Jvm.MethodName) prog_31_method_2_code (2 : Nat) (Option.none : Option Jvm.ClassFile.FieldType)) ∈ lw_all := lw_g (lw_at lw_m4 32 rfl) rfl
theorem q797 : (Jvm.Cond.methodLink "java/lang/Exception" (7 : Nat) ({ cls := "java/lang/Throwable", name := "<init>", desc := "(Ljava/lang/String;)V" } : Jvm.MethodName)) ∈ lw_all := lw_g (lw_at lw_m4 33 rfl) rfl
theorem q845 : (Jvm.Cond.declares ({ cls := "java/lang/Exception", name := "<init>", desc := "()V" } : Jvm.MethodName)) ∈ lw_tbl := lw_at lw_m4 81 rfl
theorem q846 : (Jvm.Cond.declares ({ cls := "java/lang/Exception", name := "<init>", desc := "(Ljava/lang/String;)V" } : Jvm.MethodName)) ∈ lw_tbl := lw_at lw_m4 82 rfl
theorem q900 : (Jvm.Cond.instanceMethod ({ cls := "java/lang/Exception", name := "<init>", desc := "()V" } : Jvm.MethodName)) ∈ lw_all := lw_g (lw_at lw_m4 136 rfl) rfl
theorem q901 : (Jvm.Cond.code ({ cls := "java/lang/Exception", name := "<init>", desc := "()V" } : Jvm.MethodName) prog_31_method_1_code (1 : Nat) (Option.none : Option Jvm.ClassFile.FieldType)) ∈ lw_all := lw_g (lw_at lw_m4 137 rfl) rfl
theorem q902 : (Jvm.Cond.methodLink "java/lang/Exception" (1 : Nat) ({ cls := "java/lang/Throwable", name := "<init>", desc := "()V" } : Jvm.MethodName)) ∈ lw_all := lw_g (lw_at lw_m4 138 rfl) rfl
theorem q1607 : (Jvm.Cond.instanceMethod ({ cls := "java/lang/Exception", name := "<init>", desc := "(Ljava/lang/String;Ljava/lang/Throwable;)V" } : Jvm.MethodName)) ∈ lw_all := lw_g (lw_at lw_m7 123 rfl) rfl
theorem q1608 : (Jvm.Cond.code ({ cls := "java/lang/Exception", name := "<init>", desc := "(Ljava/lang/String;Ljava/lang/Throwable;)V" } : Jvm.MethodName) prog_31_method_3_code (3 : Nat) (Option.none : Option Jvm.ClassFile.FieldType)) ∈ lw_all := lw_g (lw_at lw_m7 124 rfl) rfl
theorem q1609 : (Jvm.Cond.methodLink "java/lang/Exception" (10 : Nat) ({ cls := "java/lang/Throwable", name := "<init>", desc := "(Ljava/lang/String;Ljava/lang/Throwable;)V" } : Jvm.MethodName)) ∈ lw_all := lw_g (lw_at lw_m7 125 rfl) rfl
/-! java/lang/RuntimeException -/
set_option maxRecDepth 100000
def RJ6 : String := "java/lang/RuntimeException"
abbrev cJ6_init : ByteArray := prog_40_method_2_code
def yJ6_init : MethodName := ⟨RJ6, "<init>", "(Ljava/lang/String;)V"⟩
def dkwJ6_init_0 : List UInt8 := [42, 43, 183, 0, 7, 177]
abbrev dktJ6_init_0 : List UInt8 := dkwJ6_init_0 ++ []
theorem dksJ6_init_0 : cJ6_init.data.toList.drop 0 = dktJ6_init_0 := by decide +kernel
theorem dJ6_init_0 : decode cJ6_init 0 = .ok (.aload_n 0, 1) := dk_42 (dk_at dksJ6_init_0 0 rfl rfl)
theorem dJ6_init_1 : decode cJ6_init 1 = .ok (.aload_n 1, 1) := dk_43 (dk_at dksJ6_init_0 1 rfl rfl)
theorem dJ6_init_2 : decode cJ6_init 2 = .ok (.invokespecial 7, 3) := dk_183 0 7 (dk_at dksJ6_init_0 2 rfl rfl)
theorem dJ6_init_5 : decode cJ6_init 5 = .ok (.return_, 1) := dk_177 (dk_at dksJ6_init_0 5 rfl rfl)
abbrev cJ6_init_2 : ByteArray := prog_40_method_1_code
def yJ6_init_2 : MethodName := ⟨RJ6, "<init>", "()V"⟩
theorem dJ6_init_2_0 : decode cJ6_init_2 0 = .ok (.aload_n 0, 1) := by decide +kernel
theorem dJ6_init_2_1 : decode cJ6_init_2 1 = .ok (.invokespecial 1, 3) := by decide +kernel
theorem dJ6_init_2_4 : decode cJ6_init_2 4 = .ok (.return_, 1) := by decide +kernel
theorem q60 : (Jvm.Cond.initialized "java/lang/RuntimeException") ∈ lw_all := lw_g (lw_at lw_m1 16 rfl) rfl
theorem q792 : (Jvm.Cond.instanceMethod ({ cls := "java/lang/RuntimeException", name := "<init>", desc := "(Ljava/lang/String;)V" } : Jvm.MethodName)) ∈ lw_all := lw_g (lw_at lw_m4 28 rfl) rfl
theorem q793 : (Jvm.Cond.code ({ cls := "java/lang/RuntimeException", name := "<init>", desc := "(Ljava/lang/String;)V" } : Jvm.MethodName) prog_40_method_2_code (2 : Nat) (Option.none : Option Jvm.ClassFile.FieldType)) ∈ lw_all := lw_g (lw_at lw_m4 29 rfl) rfl
theorem q794 : (Jvm.Cond.methodLink "java/lang/RuntimeException" (7 : Nat) ({ cls := "java/lang/Exception", name := "<init>", desc := "(Ljava/lang/String;)V" } : Jvm.MethodName)) ∈ lw_all := lw_g (lw_at lw_m4 30 rfl) rfl
theorem q843 : (Jvm.Cond.declares ({ cls := "java/lang/RuntimeException", name := "<init>", desc := "()V" } : Jvm.MethodName)) ∈ lw_tbl := lw_at lw_m4 79 rfl
theorem q844 : (Jvm.Cond.declares ({ cls := "java/lang/RuntimeException", name := "<init>", desc := "(Ljava/lang/String;)V" } : Jvm.MethodName)) ∈ lw_tbl := lw_at lw_m4 80 rfl
theorem q897 : (Jvm.Cond.instanceMethod ({ cls := "java/lang/RuntimeException", name := "<init>", desc := "()V" } : Jvm.MethodName)) ∈ lw_all := lw_g (lw_at lw_m4 133 rfl) rfl
theorem q898 : (Jvm.Cond.code ({ cls := "java/lang/RuntimeException", name := "<init>", desc := "()V" } : Jvm.MethodName) prog_40_method_1_code (1 : Nat) (Option.none : Option Jvm.ClassFile.FieldType)) ∈ lw_all := lw_g (lw_at lw_m4 134 rfl) rfl
theorem q899 : (Jvm.Cond.methodLink "java/lang/RuntimeException" (1 : Nat) ({ cls := "java/lang/Exception", name := "<init>", desc := "()V" } : Jvm.MethodName)) ∈ lw_all := lw_g (lw_at lw_m4 135 rfl) rfl
/-! java/lang/IndexOutOfBoundsException -/
set_option maxRecDepth 100000
def RJ7 : String := "java/lang/IndexOutOfBoundsException"
def TJ7 : u_T := fun k => match k with
  | 0 => ("java/lang/Throwable", "cause", "Ljava/lang/Throwable;", false)
  | 1 => ("java/lang/Throwable", "stackTrace", "[Ljava/lang/StackTraceElement;", false)
  | 2 => ("java/lang/Throwable", "suppressedExceptions", "Ljava/util/List;", false)
  | 3 => ("java/lang/Throwable", "detailMessage", "Ljava/lang/String;", false)
  | 4 => ("java/lang/Throwable", "backtrace", "Ljava/lang/Object;", false)
  | _ => ("java/lang/Throwable", "depth", "I", false)
def tyJ7 : Nat → FieldType := fun k => match k with
  | 0 => .object "java/lang/Throwable"
  | 1 => .array (.object "java/lang/StackTraceElement")
  | 2 => .object "java/util/List"
  | 3 => .object "java/lang/String"
  | 4 => .object "java/lang/Object"
  | _ => .int
abbrev wsJ70 : List Cond := u_ws RJ7 TJ7 6
theorem nmJ7 : ∀ a, a < 6 → ∀ b, b < 6 → a ≠ b → (TJ7 a).2.1 ≠ (TJ7 b).2.1 := by decide +kernel
theorem tyJ7_ok : ∀ k, k < 6 → parseFieldDescriptor (TJ7 k).2.2.1 = some (tyJ7 k) := by decide +kernel
abbrev cJ7_init : ByteArray := prog_34_method_2_code
def yJ7_init : MethodName := ⟨RJ7, "<init>", "(Ljava/lang/String;)V"⟩
def dkwJ7_init_0 : List UInt8 := [42, 43, 183, 0, 7, 177]
abbrev dktJ7_init_0 : List UInt8 := dkwJ7_init_0 ++ []
theorem dksJ7_init_0 : cJ7_init.data.toList.drop 0 = dktJ7_init_0 := by decide +kernel
theorem dJ7_init_0 : decode cJ7_init 0 = .ok (.aload_n 0, 1) := dk_42 (dk_at dksJ7_init_0 0 rfl rfl)
theorem dJ7_init_1 : decode cJ7_init 1 = .ok (.aload_n 1, 1) := dk_43 (dk_at dksJ7_init_0 1 rfl rfl)
theorem dJ7_init_2 : decode cJ7_init 2 = .ok (.invokespecial 7, 3) := dk_183 0 7 (dk_at dksJ7_init_0 2 rfl rfl)
theorem dJ7_init_5 : decode cJ7_init 5 = .ok (.return_, 1) := dk_177 (dk_at dksJ7_init_0 5 rfl rfl)
abbrev cJ7_init_2 : ByteArray := prog_34_method_1_code
def yJ7_init_2 : MethodName := ⟨RJ7, "<init>", "()V"⟩
theorem dJ7_init_2_0 : decode cJ7_init_2 0 = .ok (.aload_n 0, 1) := by decide +kernel
theorem dJ7_init_2_1 : decode cJ7_init_2 1 = .ok (.invokespecial 1, 3) := by decide +kernel
theorem dJ7_init_2_4 : decode cJ7_init_2 4 = .ok (.return_, 1) := by decide +kernel
theorem q61 : (Jvm.Cond.initialized "java/lang/IndexOutOfBoundsException") ∈ lw_all := lw_g (lw_at lw_m1 17 rfl) rfl
theorem q481 : (Jvm.Cond.selects "java/lang/IndexOutOfBoundsException" ({ cls := "java/lang/Object", name := "hashCode", desc := "()I" } : Jvm.MethodName) ({ cls := "java/lang/Object", name := "hashCode", desc := "()I" } : Jvm.MethodName)) ∈ lw_all := lw_g (lw_at lw_m2 197 rfl) rfl
theorem q583 : (Jvm.Cond.selects "java/lang/IndexOutOfBoundsException" ({ cls := "java/lang/Object", name := "getClass", desc := "()Ljava/lang/Class;" } : Jvm.MethodName) ({ cls := "java/lang/Object", name := "getClass", desc := "()Ljava/lang/Class;" } : Jvm.MethodName)) ∈ lw_all := lw_g (lw_at lw_m3 59 rfl) rfl
theorem q665 : (Jvm.Cond.selects "java/lang/IndexOutOfBoundsException" ({ cls := "java/lang/Object", name := "equals", desc := "(Ljava/lang/Object;)Z" } : Jvm.MethodName) ({ cls := "java/lang/Object", name := "equals", desc := "(Ljava/lang/Object;)Z" } : Jvm.MethodName)) ∈ lw_all := lw_g (lw_at lw_m3 141 rfl) rfl
theorem q789 : (Jvm.Cond.instanceMethod ({ cls := "java/lang/IndexOutOfBoundsException", name := "<init>", desc := "(Ljava/lang/String;)V" } : Jvm.MethodName)) ∈ lw_all := lw_g (lw_at lw_m4 25 rfl) rfl
theorem q790 : (Jvm.Cond.code ({ cls := "java/lang/IndexOutOfBoundsException", name := "<init>", desc := "(Ljava/lang/String;)V" } : Jvm.MethodName) prog_34_method_2_code (2 : Nat) (Option.none : Option Jvm.ClassFile.FieldType)) ∈ lw_all := lw_g (lw_at lw_m4 26 rfl) rfl
theorem q791 : (Jvm.Cond.methodLink "java/lang/IndexOutOfBoundsException" (7 : Nat) ({ cls := "java/lang/RuntimeException", name := "<init>", desc := "(Ljava/lang/String;)V" } : Jvm.MethodName)) ∈ lw_all := lw_g (lw_at lw_m4 27 rfl) rfl
theorem q813 : (Jvm.Cond.selects "java/lang/IndexOutOfBoundsException" ({ cls := "java/lang/Throwable", name := "fillInStackTrace", desc := "()Ljava/lang/Throwable;" } : Jvm.MethodName) ({ cls := "java/lang/Throwable", name := "fillInStackTrace", desc := "()Ljava/lang/Throwable;" } : Jvm.MethodName)) ∈ lw_all := lw_g (lw_at lw_m4 49 rfl) rfl
theorem q841 : (Jvm.Cond.declares ({ cls := "java/lang/IndexOutOfBoundsException", name := "<init>", desc := "()V" } : Jvm.MethodName)) ∈ lw_tbl := lw_at lw_m4 77 rfl
theorem q842 : (Jvm.Cond.declares ({ cls := "java/lang/IndexOutOfBoundsException", name := "<init>", desc := "(Ljava/lang/String;)V" } : Jvm.MethodName)) ∈ lw_tbl := lw_at lw_m4 78 rfl
theorem q885 : (Jvm.Cond.instantiable "java/lang/IndexOutOfBoundsException" (6 : Nat)) ∈ lw_all := lw_g (lw_at lw_m4 121 rfl) rfl
theorem q886 : (Jvm.Cond.castable "java/lang/IndexOutOfBoundsException" "java/lang/IndexOutOfBoundsException") ∈ lw_tbl := lw_at lw_m4 122 rfl
theorem q887 : (Jvm.Cond.selects "java/lang/IndexOutOfBoundsException" ({ cls := "java/lang/Throwable", name := "fillInStackTrace", desc := "(I)Ljava/lang/Throwable;" } : Jvm.MethodName) ({ cls := "java/lang/Throwable", name := "fillInStackTrace", desc := "(I)Ljava/lang/Throwable;" } : Jvm.MethodName)) ∈ lw_all := lw_g (lw_at lw_m4 123 rfl) rfl
theorem q888 : (Jvm.Cond.lays "java/lang/IndexOutOfBoundsException" "java/lang/Throwable" "cause" "Ljava/lang/Throwable;") ∈ lw_all := lw_g (lw_at lw_m4 124 rfl) rfl
theorem q889 : (Jvm.Cond.lays "java/lang/IndexOutOfBoundsException" "java/lang/Throwable" "stackTrace" "[Ljava/lang/StackTraceElement;") ∈ lw_all := lw_g (lw_at lw_m4 125 rfl) rfl
theorem q890 : (Jvm.Cond.lays "java/lang/IndexOutOfBoundsException" "java/lang/Throwable" "suppressedExceptions" "Ljava/util/List;") ∈ lw_all := lw_g (lw_at lw_m4 126 rfl) rfl
theorem q891 : (Jvm.Cond.lays "java/lang/IndexOutOfBoundsException" "java/lang/Throwable" "detailMessage" "Ljava/lang/String;") ∈ lw_all := lw_g (lw_at lw_m4 127 rfl) rfl
theorem q892 : (Jvm.Cond.lays "java/lang/IndexOutOfBoundsException" "java/lang/Throwable" "backtrace" "Ljava/lang/Object;") ∈ lw_all := lw_g (lw_at lw_m4 128 rfl) rfl
theorem q894 : (Jvm.Cond.instanceMethod ({ cls := "java/lang/IndexOutOfBoundsException", name := "<init>", desc := "()V" } : Jvm.MethodName)) ∈ lw_all := lw_g (lw_at lw_m4 130 rfl) rfl
theorem q895 : (Jvm.Cond.code ({ cls := "java/lang/IndexOutOfBoundsException", name := "<init>", desc := "()V" } : Jvm.MethodName) prog_34_method_1_code (1 : Nat) (Option.none : Option Jvm.ClassFile.FieldType)) ∈ lw_all := lw_g (lw_at lw_m4 131 rfl) rfl
theorem q896 : (Jvm.Cond.methodLink "java/lang/IndexOutOfBoundsException" (1 : Nat) ({ cls := "java/lang/RuntimeException", name := "<init>", desc := "()V" } : Jvm.MethodName)) ∈ lw_all := lw_g (lw_at lw_m4 132 rfl) rfl
theorem q903 : (Jvm.Cond.lays "java/lang/IndexOutOfBoundsException" "java/lang/Throwable" "depth" "I") ∈ lw_all := lw_g (lw_at lw_m4 139 rfl) rfl
theorem q904 : (Jvm.Cond.superclass "java/lang/IndexOutOfBoundsException" "java/lang/RuntimeException") ∈ lw_all := lw_g (lw_at lw_m4 140 rfl) rfl
theorem q2649 : (Jvm.Cond.castable "java/lang/IndexOutOfBoundsException" "java/lang/Object") ∈ lw_tbl := lw_at lw_m11 205 rfl
theorem in_J7 : ∀ w ∈ wsJ70, w ∈ lw_all := lw_in wsJ70 [888, 889, 890, 891, 892, 903] (by decide +kernel) (by decide +kernel)
/-! java/lang/ArrayIndexOutOfBoundsException -/
set_option maxRecDepth 100000
def RJ8 : String := "java/lang/ArrayIndexOutOfBoundsException"
def TJ8 : u_T := fun k => match k with
  | 0 => ("java/lang/Throwable", "backtrace", "Ljava/lang/Object;", false)
  | 1 => ("java/lang/Throwable", "detailMessage", "Ljava/lang/String;", false)
  | 2 => ("java/lang/Throwable", "cause", "Ljava/lang/Throwable;", false)
  | 3 => ("java/lang/Throwable", "stackTrace", "[Ljava/lang/StackTraceElement;", false)
  | 4 => ("java/lang/Throwable", "depth", "I", false)
  | _ => ("java/lang/Throwable", "suppressedExceptions", "Ljava/util/List;", false)
def tyJ8 : Nat → FieldType := fun k => match k with
  | 0 => .object "java/lang/Object"
  | 1 => .object "java/lang/String"
  | 2 => .object "java/lang/Throwable"
  | 3 => .array (.object "java/lang/StackTraceElement")
  | 4 => .int
  | _ => .object "java/util/List"
abbrev wsJ80 : List Cond := u_ws RJ8 TJ8 6
theorem nmJ8 : ∀ a, a < 6 → ∀ b, b < 6 → a ≠ b → (TJ8 a).2.1 ≠ (TJ8 b).2.1 := by decide +kernel
theorem tyJ8_ok : ∀ k, k < 6 → parseFieldDescriptor (TJ8 k).2.2.1 = some (tyJ8 k) := by decide +kernel
abbrev cJ8_init : ByteArray := prog_28_method_2_code
def yJ8_init : MethodName := ⟨RJ8, "<init>", "(Ljava/lang/String;)V"⟩
def dkwJ8_init_0 : List UInt8 := [42, 43, 183, 0, 7, 177]
abbrev dktJ8_init_0 : List UInt8 := dkwJ8_init_0 ++ []
theorem dksJ8_init_0 : cJ8_init.data.toList.drop 0 = dktJ8_init_0 := by decide +kernel
theorem dJ8_init_0 : decode cJ8_init 0 = .ok (.aload_n 0, 1) := dk_42 (dk_at dksJ8_init_0 0 rfl rfl)
theorem dJ8_init_1 : decode cJ8_init 1 = .ok (.aload_n 1, 1) := dk_43 (dk_at dksJ8_init_0 1 rfl rfl)
theorem dJ8_init_2 : decode cJ8_init 2 = .ok (.invokespecial 7, 3) := dk_183 0 7 (dk_at dksJ8_init_0 2 rfl rfl)
theorem dJ8_init_5 : decode cJ8_init 5 = .ok (.return_, 1) := dk_177 (dk_at dksJ8_init_0 5 rfl rfl)
theorem q62 : (Jvm.Cond.initialized "java/lang/ArrayIndexOutOfBoundsException") ∈ lw_all := lw_g (lw_at lw_m1 18 rfl) rfl
theorem q478 : (Jvm.Cond.selects "java/lang/ArrayIndexOutOfBoundsException" ({ cls := "java/lang/Object", name := "hashCode", desc := "()I" } : Jvm.MethodName) ({ cls := "java/lang/Object", name := "hashCode", desc := "()I" } : Jvm.MethodName)) ∈ lw_all := lw_g (lw_at lw_m2 194 rfl) rfl
theorem q580 : (Jvm.Cond.selects "java/lang/ArrayIndexOutOfBoundsException" ({ cls := "java/lang/Object", name := "getClass", desc := "()Ljava/lang/Class;" } : Jvm.MethodName) ({ cls := "java/lang/Object", name := "getClass", desc := "()Ljava/lang/Class;" } : Jvm.MethodName)) ∈ lw_all := lw_g (lw_at lw_m3 56 rfl) rfl
theorem q662 : (Jvm.Cond.selects "java/lang/ArrayIndexOutOfBoundsException" ({ cls := "java/lang/Object", name := "equals", desc := "(Ljava/lang/Object;)Z" } : Jvm.MethodName) ({ cls := "java/lang/Object", name := "equals", desc := "(Ljava/lang/Object;)Z" } : Jvm.MethodName)) ∈ lw_all := lw_g (lw_at lw_m3 138 rfl) rfl
theorem q785 : (Jvm.Cond.instantiable "java/lang/ArrayIndexOutOfBoundsException" (6 : Nat)) ∈ lw_all := lw_g (lw_at lw_m4 21 rfl) rfl
theorem q786 : (Jvm.Cond.instanceMethod ({ cls := "java/lang/ArrayIndexOutOfBoundsException", name := "<init>", desc := "(Ljava/lang/String;)V" } : Jvm.MethodName)) ∈ lw_all := lw_g (lw_at lw_m4 22 rfl) rfl
theorem q787 : (Jvm.Cond.code ({ cls := "java/lang/ArrayIndexOutOfBoundsException", name := "<init>", desc := "(Ljava/lang/String;)V" } : Jvm.MethodName) prog_28_method_2_code (2 : Nat) (Option.none : Option Jvm.ClassFile.FieldType)) ∈ lw_all := lw_g (lw_at lw_m4 23 rfl) rfl
theorem q788 : (Jvm.Cond.methodLink "java/lang/ArrayIndexOutOfBoundsException" (7 : Nat) ({ cls := "java/lang/IndexOutOfBoundsException", name := "<init>", desc := "(Ljava/lang/String;)V" } : Jvm.MethodName)) ∈ lw_all := lw_g (lw_at lw_m4 24 rfl) rfl
theorem q810 : (Jvm.Cond.selects "java/lang/ArrayIndexOutOfBoundsException" ({ cls := "java/lang/Throwable", name := "fillInStackTrace", desc := "()Ljava/lang/Throwable;" } : Jvm.MethodName) ({ cls := "java/lang/Throwable", name := "fillInStackTrace", desc := "()Ljava/lang/Throwable;" } : Jvm.MethodName)) ∈ lw_all := lw_g (lw_at lw_m4 46 rfl) rfl
theorem q827 : (Jvm.Cond.lays "java/lang/ArrayIndexOutOfBoundsException" "java/lang/Throwable" "backtrace" "Ljava/lang/Object;") ∈ lw_all := lw_g (lw_at lw_m4 63 rfl) rfl
theorem q829 : (Jvm.Cond.lays "java/lang/ArrayIndexOutOfBoundsException" "java/lang/Throwable" "detailMessage" "Ljava/lang/String;") ∈ lw_all := lw_g (lw_at lw_m4 65 rfl) rfl
theorem q831 : (Jvm.Cond.lays "java/lang/ArrayIndexOutOfBoundsException" "java/lang/Throwable" "cause" "Ljava/lang/Throwable;") ∈ lw_all := lw_g (lw_at lw_m4 67 rfl) rfl
theorem q833 : (Jvm.Cond.lays "java/lang/ArrayIndexOutOfBoundsException" "java/lang/Throwable" "stackTrace" "[Ljava/lang/StackTraceElement;") ∈ lw_all := lw_g (lw_at lw_m4 69 rfl) rfl
theorem q835 : (Jvm.Cond.lays "java/lang/ArrayIndexOutOfBoundsException" "java/lang/Throwable" "depth" "I") ∈ lw_all := lw_g (lw_at lw_m4 71 rfl) rfl
theorem q837 : (Jvm.Cond.lays "java/lang/ArrayIndexOutOfBoundsException" "java/lang/Throwable" "suppressedExceptions" "Ljava/util/List;") ∈ lw_all := lw_g (lw_at lw_m4 73 rfl) rfl
theorem q839 : (Jvm.Cond.superclass "java/lang/ArrayIndexOutOfBoundsException" "java/lang/IndexOutOfBoundsException") ∈ lw_all := lw_g (lw_at lw_m4 75 rfl) rfl
theorem q840 : (Jvm.Cond.castable "java/lang/ArrayIndexOutOfBoundsException" "java/lang/ArrayIndexOutOfBoundsException") ∈ lw_tbl := lw_at lw_m4 76 rfl
theorem q849 : (Jvm.Cond.selects "java/lang/ArrayIndexOutOfBoundsException" ({ cls := "java/lang/Throwable", name := "fillInStackTrace", desc := "(I)Ljava/lang/Throwable;" } : Jvm.MethodName) ({ cls := "java/lang/Throwable", name := "fillInStackTrace", desc := "(I)Ljava/lang/Throwable;" } : Jvm.MethodName)) ∈ lw_all := lw_g (lw_at lw_m4 85 rfl) rfl
theorem q2630 : (Jvm.Cond.castable "java/lang/ArrayIndexOutOfBoundsException" "java/lang/IndexOutOfBoundsException") ∈ lw_tbl := lw_at lw_m11 186 rfl
theorem q2648 : (Jvm.Cond.castable "java/lang/ArrayIndexOutOfBoundsException" "java/lang/Object") ∈ lw_tbl := lw_at lw_m11 204 rfl
theorem in_J8 : ∀ w ∈ wsJ80, w ∈ lw_all := lw_in wsJ80 [827, 829, 831, 833, 835, 837] (by decide +kernel) (by decide +kernel)
/-! java/lang/String -/
set_option maxRecDepth 100000
def RJ9 : String := "java/lang/String"
def TJ9 : u_T := fun k => match k with
  | 0 => ("java/lang/String", "value", "[B", true)
  | _ => ("java/lang/String", "coder", "B", true)
def tyJ9 : Nat → FieldType := fun k => match k with
  | 0 => .array .byte
  | _ => .byte
abbrev wsJ90 : List Cond := u_ws RJ9 TJ9 2
theorem nmJ9 : ∀ a, a < 2 → ∀ b, b < 2 → a ≠ b → (TJ9 a).2.1 ≠ (TJ9 b).2.1 := by decide +kernel
theorem tyJ9_ok : ∀ k, k < 2 → parseFieldDescriptor (TJ9 k).2.2.1 = some (tyJ9 k) := by decide +kernel
theorem q63 : (Jvm.Cond.initialized "java/lang/String") ∈ lw_all := lw_g (lw_at lw_m1 19 rfl) rfl
theorem q859 : (Jvm.Cond.instantiable "java/lang/String" (4 : Nat)) ∈ lw_all := lw_g (lw_at lw_m4 95 rfl) rfl
theorem q861 : (Jvm.Cond.laysFinal "java/lang/String" "java/lang/String" "value" "[B") ∈ lw_all := lw_g (lw_at lw_m4 97 rfl) rfl
theorem q862 : (Jvm.Cond.soleField "java/lang/String" "value") ∈ lw_all := lw_g (lw_at lw_m4 98 rfl) rfl
theorem q863 : (Jvm.Cond.laysFinal "java/lang/String" "java/lang/String" "coder" "B") ∈ lw_all := lw_g (lw_at lw_m4 99 rfl) rfl
theorem q864 : (Jvm.Cond.soleField "java/lang/String" "coder") ∈ lw_all := lw_g (lw_at lw_m4 100 rfl) rfl
theorem q2636 : (Jvm.Cond.castable "java/lang/String" "java/lang/Comparable") ∈ lw_tbl := lw_at lw_m11 192 rfl
theorem q2672 : (Jvm.Cond.castable "java/lang/String" "java/lang/Object") ∈ lw_tbl := lw_at lw_m11 228 rfl
theorem in_J9 : ∀ w ∈ wsJ90, w ∈ lw_all := lw_in wsJ90 [861, 863] (by decide +kernel) (by decide +kernel)
/-! java/lang/IllegalStateException -/
set_option maxRecDepth 100000
def RJ10 : String := "java/lang/IllegalStateException"
def TJ10 : u_T := fun k => match k with
  | 0 => ("java/lang/Throwable", "cause", "Ljava/lang/Throwable;", false)
  | 1 => ("java/lang/Throwable", "stackTrace", "[Ljava/lang/StackTraceElement;", false)
  | 2 => ("java/lang/Throwable", "suppressedExceptions", "Ljava/util/List;", false)
  | 3 => ("java/lang/Throwable", "detailMessage", "Ljava/lang/String;", false)
  | 4 => ("java/lang/Throwable", "backtrace", "Ljava/lang/Object;", false)
  | _ => ("java/lang/Throwable", "depth", "I", false)
def tyJ10 : Nat → FieldType := fun k => match k with
  | 0 => .object "java/lang/Throwable"
  | 1 => .array (.object "java/lang/StackTraceElement")
  | 2 => .object "java/util/List"
  | 3 => .object "java/lang/String"
  | 4 => .object "java/lang/Object"
  | _ => .int
abbrev wsJ100 : List Cond := u_ws RJ10 TJ10 6
theorem nmJ10 : ∀ a, a < 6 → ∀ b, b < 6 → a ≠ b → (TJ10 a).2.1 ≠ (TJ10 b).2.1 := by decide +kernel
theorem tyJ10_ok : ∀ k, k < 6 → parseFieldDescriptor (TJ10 k).2.2.1 = some (tyJ10 k) := by decide +kernel
abbrev cJ10_init : ByteArray := prog_33_method_1_code
def yJ10_init : MethodName := ⟨RJ10, "<init>", "()V"⟩
theorem dJ10_init_0 : decode cJ10_init 0 = .ok (.aload_n 0, 1) := by decide +kernel
theorem dJ10_init_1 : decode cJ10_init 1 = .ok (.invokespecial 1, 3) := by decide +kernel
theorem dJ10_init_4 : decode cJ10_init 4 = .ok (.return_, 1) := by decide +kernel
theorem q64 : (Jvm.Cond.initialized "java/lang/IllegalStateException") ∈ lw_all := lw_g (lw_at lw_m1 20 rfl) rfl
theorem q480 : (Jvm.Cond.selects "java/lang/IllegalStateException" ({ cls := "java/lang/Object", name := "hashCode", desc := "()I" } : Jvm.MethodName) ({ cls := "java/lang/Object", name := "hashCode", desc := "()I" } : Jvm.MethodName)) ∈ lw_all := lw_g (lw_at lw_m2 196 rfl) rfl
theorem q582 : (Jvm.Cond.selects "java/lang/IllegalStateException" ({ cls := "java/lang/Object", name := "getClass", desc := "()Ljava/lang/Class;" } : Jvm.MethodName) ({ cls := "java/lang/Object", name := "getClass", desc := "()Ljava/lang/Class;" } : Jvm.MethodName)) ∈ lw_all := lw_g (lw_at lw_m3 58 rfl) rfl
theorem q664 : (Jvm.Cond.selects "java/lang/IllegalStateException" ({ cls := "java/lang/Object", name := "equals", desc := "(Ljava/lang/Object;)Z" } : Jvm.MethodName) ({ cls := "java/lang/Object", name := "equals", desc := "(Ljava/lang/Object;)Z" } : Jvm.MethodName)) ∈ lw_all := lw_g (lw_at lw_m3 140 rfl) rfl
theorem q812 : (Jvm.Cond.selects "java/lang/IllegalStateException" ({ cls := "java/lang/Throwable", name := "fillInStackTrace", desc := "()Ljava/lang/Throwable;" } : Jvm.MethodName) ({ cls := "java/lang/Throwable", name := "fillInStackTrace", desc := "()Ljava/lang/Throwable;" } : Jvm.MethodName)) ∈ lw_all := lw_g (lw_at lw_m4 48 rfl) rfl
theorem q909 : (Jvm.Cond.instantiable "java/lang/IllegalStateException" (6 : Nat)) ∈ lw_all := lw_g (lw_at lw_m4 145 rfl) rfl
theorem q910 : (Jvm.Cond.castable "java/lang/IllegalStateException" "java/lang/IllegalStateException") ∈ lw_tbl := lw_at lw_m4 146 rfl
theorem q911 : (Jvm.Cond.selects "java/lang/IllegalStateException" ({ cls := "java/lang/Throwable", name := "fillInStackTrace", desc := "(I)Ljava/lang/Throwable;" } : Jvm.MethodName) ({ cls := "java/lang/Throwable", name := "fillInStackTrace", desc := "(I)Ljava/lang/Throwable;" } : Jvm.MethodName)) ∈ lw_all := lw_g (lw_at lw_m4 147 rfl) rfl
theorem q912 : (Jvm.Cond.lays "java/lang/IllegalStateException" "java/lang/Throwable" "cause" "Ljava/lang/Throwable;") ∈ lw_all := lw_g (lw_at lw_m4 148 rfl) rfl
theorem q913 : (Jvm.Cond.lays "java/lang/IllegalStateException" "java/lang/Throwable" "stackTrace" "[Ljava/lang/StackTraceElement;") ∈ lw_all := lw_g (lw_at lw_m4 149 rfl) rfl
theorem q914 : (Jvm.Cond.lays "java/lang/IllegalStateException" "java/lang/Throwable" "suppressedExceptions" "Ljava/util/List;") ∈ lw_all := lw_g (lw_at lw_m4 150 rfl) rfl
theorem q915 : (Jvm.Cond.lays "java/lang/IllegalStateException" "java/lang/Throwable" "detailMessage" "Ljava/lang/String;") ∈ lw_all := lw_g (lw_at lw_m4 151 rfl) rfl
theorem q916 : (Jvm.Cond.lays "java/lang/IllegalStateException" "java/lang/Throwable" "backtrace" "Ljava/lang/Object;") ∈ lw_all := lw_g (lw_at lw_m4 152 rfl) rfl
theorem q918 : (Jvm.Cond.instanceMethod ({ cls := "java/lang/IllegalStateException", name := "<init>", desc := "()V" } : Jvm.MethodName)) ∈ lw_all := lw_g (lw_at lw_m4 154 rfl) rfl
theorem q919 : (Jvm.Cond.code ({ cls := "java/lang/IllegalStateException", name := "<init>", desc := "()V" } : Jvm.MethodName) prog_33_method_1_code (1 : Nat) (Option.none : Option Jvm.ClassFile.FieldType)) ∈ lw_all := lw_g (lw_at lw_m4 155 rfl) rfl
theorem q920 : (Jvm.Cond.methodLink "java/lang/IllegalStateException" (1 : Nat) ({ cls := "java/lang/RuntimeException", name := "<init>", desc := "()V" } : Jvm.MethodName)) ∈ lw_all := lw_g (lw_at lw_m4 156 rfl) rfl
theorem q921 : (Jvm.Cond.lays "java/lang/IllegalStateException" "java/lang/Throwable" "depth" "I") ∈ lw_all := lw_g (lw_at lw_m4 157 rfl) rfl
theorem q922 : (Jvm.Cond.superclass "java/lang/IllegalStateException" "java/lang/RuntimeException") ∈ lw_all := lw_g (lw_at lw_m4 158 rfl) rfl
theorem q2650 : (Jvm.Cond.castable "java/lang/IllegalStateException" "java/lang/Object") ∈ lw_tbl := lw_at lw_m11 206 rfl
theorem in_J10 : ∀ w ∈ wsJ100, w ∈ lw_all := lw_in wsJ100 [912, 913, 914, 915, 916, 921] (by decide +kernel) (by decide +kernel)
/-! java/util/Objects -/
set_option maxRecDepth 100000
def RJ11 : String := "java/util/Objects"
abbrev cJ11_checkIndex : ByteArray := prog_63_method_17_code
def yJ11_checkIndex : MethodName := ⟨RJ11, "checkIndex", "(II)I"⟩
def dkwJ11_checkIndex_0 : List UInt8 := [26, 27, 1, 184, 0, 105, 172]
abbrev dktJ11_checkIndex_0 : List UInt8 := dkwJ11_checkIndex_0 ++ []
theorem dksJ11_checkIndex_0 : cJ11_checkIndex.data.toList.drop 0 = dktJ11_checkIndex_0 := by decide +kernel
theorem dJ11_checkIndex_0 : decode cJ11_checkIndex 0 = .ok (.iload_n 0, 1) := dk_26 (dk_at dksJ11_checkIndex_0 0 rfl rfl)
theorem dJ11_checkIndex_1 : decode cJ11_checkIndex 1 = .ok (.iload_n 1, 1) := dk_27 (dk_at dksJ11_checkIndex_0 1 rfl rfl)
theorem dJ11_checkIndex_2 : decode cJ11_checkIndex 2 = .ok (.aconst_null, 1) := dk_1 (dk_at dksJ11_checkIndex_0 2 rfl rfl)
theorem dJ11_checkIndex_3 : decode cJ11_checkIndex 3 = .ok (.invokestatic 105, 3) := dk_184 0 105 (dk_at dksJ11_checkIndex_0 3 rfl rfl)
theorem dJ11_checkIndex_6 : decode cJ11_checkIndex 6 = .ok (.ireturn, 1) := dk_172 (dk_at dksJ11_checkIndex_0 6 rfl rfl)
theorem q65 : (Jvm.Cond.initialized "java/util/Objects") ∈ lw_all := lw_g (lw_at lw_m1 21 rfl) rfl
theorem q419 : (Jvm.Cond.static ({ cls := "java/util/Objects", name := "checkIndex", desc := "(II)I" } : Jvm.MethodName)) ∈ lw_all := lw_g (lw_at lw_m2 135 rfl) rfl
theorem q420 : (Jvm.Cond.code ({ cls := "java/util/Objects", name := "checkIndex", desc := "(II)I" } : Jvm.MethodName) prog_63_method_17_code (2 : Nat) (Option.some Jvm.ClassFile.FieldType.int)) ∈ lw_all := lw_g (lw_at lw_m2 136 rfl) rfl
theorem q421 : (Jvm.Cond.methodLink "java/util/Objects" (105 : Nat) ({ cls := "jdk/internal/util/Preconditions", name := "checkIndex", desc := "(IILjava/util/function/BiFunction;)I" } : Jvm.MethodName)) ∈ lw_all := lw_g (lw_at lw_m2 137 rfl) rfl
/-! jdk/internal/util/Preconditions -/
set_option maxRecDepth 100000
def RJ12 : String := "jdk/internal/util/Preconditions"
abbrev cJ12_checkIndex : ByteArray := prog_67_method_11_code
def yJ12_checkIndex : MethodName := ⟨RJ12, "checkIndex", "(IILjava/util/function/BiFunction;)I"⟩
def dkwJ12_checkIndex_0 : List UInt8 := [26, 155, 0, 8, 26, 27, 161, 0, 10, 44, 26, 27, 184, 0, 95, 191, 26, 172]
abbrev dktJ12_checkIndex_0 : List UInt8 := dkwJ12_checkIndex_0 ++ []
theorem dksJ12_checkIndex_0 : cJ12_checkIndex.data.toList.drop 0 = dktJ12_checkIndex_0 := by decide +kernel
theorem dJ12_checkIndex_0 : decode cJ12_checkIndex 0 = .ok (.iload_n 0, 1) := dk_26 (dk_at dksJ12_checkIndex_0 0 rfl rfl)
theorem dJ12_checkIndex_1 : decode cJ12_checkIndex 1 = .ok (.ifCond .lt 8, 3) := dk_155 0 8 (dk_at dksJ12_checkIndex_0 1 rfl rfl)
theorem dJ12_checkIndex_4 : decode cJ12_checkIndex 4 = .ok (.iload_n 0, 1) := dk_26 (dk_at dksJ12_checkIndex_0 4 rfl rfl)
theorem dJ12_checkIndex_5 : decode cJ12_checkIndex 5 = .ok (.iload_n 1, 1) := dk_27 (dk_at dksJ12_checkIndex_0 5 rfl rfl)
theorem dJ12_checkIndex_6 : decode cJ12_checkIndex 6 = .ok (.if_icmp .lt 10, 3) := dk_161 0 10 (dk_at dksJ12_checkIndex_0 6 rfl rfl)
theorem dJ12_checkIndex_9 : decode cJ12_checkIndex 9 = .ok (.aload_n 2, 1) := dk_44 (dk_at dksJ12_checkIndex_0 9 rfl rfl)
theorem dJ12_checkIndex_10 : decode cJ12_checkIndex 10 = .ok (.iload_n 0, 1) := dk_26 (dk_at dksJ12_checkIndex_0 10 rfl rfl)
theorem dJ12_checkIndex_11 : decode cJ12_checkIndex 11 = .ok (.iload_n 1, 1) := dk_27 (dk_at dksJ12_checkIndex_0 11 rfl rfl)
theorem dJ12_checkIndex_12 : decode cJ12_checkIndex 12 = .ok (.invokestatic 95, 3) := dk_184 0 95 (dk_at dksJ12_checkIndex_0 12 rfl rfl)
theorem dJ12_checkIndex_15 : decode cJ12_checkIndex 15 = .ok (.athrow, 1) := dk_191 (dk_at dksJ12_checkIndex_0 15 rfl rfl)
theorem dJ12_checkIndex_16 : decode cJ12_checkIndex 16 = .ok (.iload_n 0, 1) := dk_26 (dk_at dksJ12_checkIndex_0 16 rfl rfl)
theorem dJ12_checkIndex_17 : decode cJ12_checkIndex 17 = .ok (.ireturn, 1) := dk_172 (dk_at dksJ12_checkIndex_0 17 rfl rfl)
theorem q66 : (Jvm.Cond.initialized "jdk/internal/util/Preconditions") ∈ lw_all := lw_g (lw_at lw_m1 22 rfl) rfl
theorem q422 : (Jvm.Cond.static ({ cls := "jdk/internal/util/Preconditions", name := "checkIndex", desc := "(IILjava/util/function/BiFunction;)I" } : Jvm.MethodName)) ∈ lw_all := lw_g (lw_at lw_m2 138 rfl) rfl
theorem q423 : (Jvm.Cond.code ({ cls := "jdk/internal/util/Preconditions", name := "checkIndex", desc := "(IILjava/util/function/BiFunction;)I" } : Jvm.MethodName) prog_67_method_11_code (3 : Nat) (Option.some Jvm.ClassFile.FieldType.int)) ∈ lw_all := lw_g (lw_at lw_m2 139 rfl) rfl
/-! java/lang/Number -/
set_option maxRecDepth 100000
def RJ13 : String := "java/lang/Number"
abbrev cJ13_init : ByteArray := prog_39_method_1_code
def yJ13_init : MethodName := ⟨RJ13, "<init>", "()V"⟩
theorem dJ13_init_0 : decode cJ13_init 0 = .ok (.aload_n 0, 1) := by decide +kernel
theorem dJ13_init_1 : decode cJ13_init 1 = .ok (.invokespecial 1, 3) := by decide +kernel
theorem dJ13_init_4 : decode cJ13_init 4 = .ok (.return_, 1) := by decide +kernel
theorem q67 : (Jvm.Cond.initialized "java/lang/Number") ∈ lw_all := lw_g (lw_at lw_m1 23 rfl) rfl
theorem q760 : (Jvm.Cond.instanceMethod ({ cls := "java/lang/Number", name := "<init>", desc := "()V" } : Jvm.MethodName)) ∈ lw_all := lw_g (lw_at lw_m3 236 rfl) rfl
theorem q761 : (Jvm.Cond.code ({ cls := "java/lang/Number", name := "<init>", desc := "()V" } : Jvm.MethodName) prog_39_method_1_code (1 : Nat) (Option.none : Option Jvm.ClassFile.FieldType)) ∈ lw_all := lw_g (lw_at lw_m3 237 rfl) rfl
theorem q762 : (Jvm.Cond.methodLink "java/lang/Number" (1 : Nat) ({ cls := "java/lang/Object", name := "<init>", desc := "()V" } : Jvm.MethodName)) ∈ lw_all := lw_g (lw_at lw_m3 238 rfl) rfl
/-! java/lang/Integer -/
set_option maxRecDepth 100000
def RJ14 : String := "java/lang/Integer"
def TJ14 : u_T := fun k => match k with
  | _ => ("java/lang/Integer", "value", "I", true)
def tyJ14 : Nat → FieldType := fun k => match k with
  | _ => .int
abbrev wsJ140 : List Cond := u_ws RJ14 TJ14 1
theorem nmJ14 : ∀ a, a < 1 → ∀ b, b < 1 → a ≠ b → (TJ14 a).2.1 ≠ (TJ14 b).2.1 := by decide +kernel
theorem tyJ14_ok : ∀ k, k < 1 → parseFieldDescriptor (TJ14 k).2.2.1 = some (tyJ14 k) := by decide +kernel
abbrev cJ14_hashCode : ByteArray := prog_35_method_32_code
def yJ14_hashCode : MethodName := ⟨RJ14, "hashCode", "()I"⟩
def dkwJ14_hashCode_0 : List UInt8 := [42, 180, 0, 205, 184, 0, 208, 172]
abbrev dktJ14_hashCode_0 : List UInt8 := dkwJ14_hashCode_0 ++ []
theorem dksJ14_hashCode_0 : cJ14_hashCode.data.toList.drop 0 = dktJ14_hashCode_0 := by decide +kernel
theorem dJ14_hashCode_0 : decode cJ14_hashCode 0 = .ok (.aload_n 0, 1) := dk_42 (dk_at dksJ14_hashCode_0 0 rfl rfl)
theorem dJ14_hashCode_1 : decode cJ14_hashCode 1 = .ok (.getfield 205, 3) := dk_180 0 205 (dk_at dksJ14_hashCode_0 1 rfl rfl)
theorem dJ14_hashCode_4 : decode cJ14_hashCode 4 = .ok (.invokestatic 208, 3) := dk_184 0 208 (dk_at dksJ14_hashCode_0 4 rfl rfl)
theorem dJ14_hashCode_7 : decode cJ14_hashCode 7 = .ok (.ireturn, 1) := dk_172 (dk_at dksJ14_hashCode_0 7 rfl rfl)
abbrev cJ14_hashCode_2 : ByteArray := prog_35_method_33_code
def yJ14_hashCode_2 : MethodName := ⟨RJ14, "hashCode", "(I)I"⟩
theorem dJ14_hashCode_2_0 : decode cJ14_hashCode_2 0 = .ok (.iload_n 0, 1) := by decide +kernel
theorem dJ14_hashCode_2_1 : decode cJ14_hashCode_2 1 = .ok (.ireturn, 1) := by decide +kernel
abbrev cJ14_compareTo : ByteArray := prog_35_method_63_code
def yJ14_compareTo : MethodName := ⟨RJ14, "compareTo", "(Ljava/lang/Object;)I"⟩
def dkwJ14_compareTo_0 : List UInt8 := [42, 43, 192, 0, 1, 182, 1, 28, 172]
abbrev dktJ14_compareTo_0 : List UInt8 := dkwJ14_compareTo_0 ++ []
theorem dksJ14_compareTo_0 : cJ14_compareTo.data.toList.drop 0 = dktJ14_compareTo_0 := by decide +kernel
theorem dJ14_compareTo_0 : decode cJ14_compareTo 0 = .ok (.aload_n 0, 1) := dk_42 (dk_at dksJ14_compareTo_0 0 rfl rfl)
theorem dJ14_compareTo_1 : decode cJ14_compareTo 1 = .ok (.aload_n 1, 1) := dk_43 (dk_at dksJ14_compareTo_0 1 rfl rfl)
theorem dJ14_compareTo_2 : decode cJ14_compareTo 2 = .ok (.checkcast 1, 3) := dk_192 0 1 (dk_at dksJ14_compareTo_0 2 rfl rfl)
theorem dJ14_compareTo_5 : decode cJ14_compareTo 5 = .ok (.invokevirtual 284, 3) := dk_182 1 28 (dk_at dksJ14_compareTo_0 5 rfl rfl)
theorem dJ14_compareTo_8 : decode cJ14_compareTo 8 = .ok (.ireturn, 1) := dk_172 (dk_at dksJ14_compareTo_0 8 rfl rfl)
abbrev cJ14_compareTo_2 : ByteArray := prog_35_method_39_code
def yJ14_compareTo_2 : MethodName := ⟨RJ14, "compareTo", "(Ljava/lang/Integer;)I"⟩
def dkwJ14_compareTo_2_0 : List UInt8 := [42, 180, 0, 205, 43, 180, 0, 205, 184, 1, 3, 172]
abbrev dktJ14_compareTo_2_0 : List UInt8 := dkwJ14_compareTo_2_0 ++ []
theorem dksJ14_compareTo_2_0 : cJ14_compareTo_2.data.toList.drop 0 = dktJ14_compareTo_2_0 := by decide +kernel
theorem dJ14_compareTo_2_0 : decode cJ14_compareTo_2 0 = .ok (.aload_n 0, 1) := dk_42 (dk_at dksJ14_compareTo_2_0 0 rfl rfl)
theorem dJ14_compareTo_2_1 : decode cJ14_compareTo_2 1 = .ok (.getfield 205, 3) := dk_180 0 205 (dk_at dksJ14_compareTo_2_0 1 rfl rfl)
theorem dJ14_compareTo_2_4 : decode cJ14_compareTo_2 4 = .ok (.aload_n 1, 1) := dk_43 (dk_at dksJ14_compareTo_2_0 4 rfl rfl)
theorem dJ14_compareTo_2_5 : decode cJ14_compareTo_2 5 = .ok (.getfield 205, 3) := dk_180 0 205 (dk_at dksJ14_compareTo_2_0 5 rfl rfl)
theorem dJ14_compareTo_2_8 : decode cJ14_compareTo_2 8 = .ok (.invokestatic 259, 3) := dk_184 1 3 (dk_at dksJ14_compareTo_2_0 8 rfl rfl)
theorem dJ14_compareTo_2_11 : decode cJ14_compareTo_2 11 = .ok (.ireturn, 1) := dk_172 (dk_at dksJ14_compareTo_2_0 11 rfl rfl)
abbrev cJ14_compare : ByteArray := prog_35_method_40_code
def yJ14_compare : MethodName := ⟨RJ14, "compare", "(II)I"⟩
def dkwJ14_compare_0 : List UInt8 := [26, 27, 162, 0, 7, 2, 167, 0, 13, 26, 27, 160, 0, 7, 3, 167, 0, 4, 4, 172]
abbrev dktJ14_compare_0 : List UInt8 := dkwJ14_compare_0 ++ []
theorem dksJ14_compare_0 : cJ14_compare.data.toList.drop 0 = dktJ14_compare_0 := by decide +kernel
theorem dJ14_compare_0 : decode cJ14_compare 0 = .ok (.iload_n 0, 1) := dk_26 (dk_at dksJ14_compare_0 0 rfl rfl)
theorem dJ14_compare_1 : decode cJ14_compare 1 = .ok (.iload_n 1, 1) := dk_27 (dk_at dksJ14_compare_0 1 rfl rfl)
theorem dJ14_compare_2 : decode cJ14_compare 2 = .ok (.if_icmp .ge 7, 3) := dk_162 0 7 (dk_at dksJ14_compare_0 2 rfl rfl)
theorem dJ14_compare_5 : decode cJ14_compare 5 = .ok (.iconst (-1), 1) := dk_2 (dk_at dksJ14_compare_0 5 rfl rfl)
theorem dJ14_compare_6 : decode cJ14_compare 6 = .ok (.goto 13, 3) := dk_167 0 13 (dk_at dksJ14_compare_0 6 rfl rfl)
theorem dJ14_compare_9 : decode cJ14_compare 9 = .ok (.iload_n 0, 1) := dk_26 (dk_at dksJ14_compare_0 9 rfl rfl)
theorem dJ14_compare_10 : decode cJ14_compare 10 = .ok (.iload_n 1, 1) := dk_27 (dk_at dksJ14_compare_0 10 rfl rfl)
theorem dJ14_compare_11 : decode cJ14_compare 11 = .ok (.if_icmp .ne 7, 3) := dk_160 0 7 (dk_at dksJ14_compare_0 11 rfl rfl)
theorem dJ14_compare_14 : decode cJ14_compare 14 = .ok (.iconst 0, 1) := dk_3 (dk_at dksJ14_compare_0 14 rfl rfl)
theorem dJ14_compare_15 : decode cJ14_compare 15 = .ok (.goto 4, 3) := dk_167 0 4 (dk_at dksJ14_compare_0 15 rfl rfl)
theorem dJ14_compare_18 : decode cJ14_compare 18 = .ok (.iconst 1, 1) := dk_4 (dk_at dksJ14_compare_0 18 rfl rfl)
theorem dJ14_compare_19 : decode cJ14_compare 19 = .ok (.ireturn, 1) := dk_172 (dk_at dksJ14_compare_0 19 rfl rfl)
abbrev cJ14_equals : ByteArray := prog_35_method_34_code
def yJ14_equals : MethodName := ⟨RJ14, "equals", "(Ljava/lang/Object;)Z"⟩
def dkwJ14_equals_1 : List UInt8 := [167, 0, 4, 3, 172, 3, 172]
abbrev dktJ14_equals_1 : List UInt8 := dkwJ14_equals_1 ++ []
def dkwJ14_equals_0 : List UInt8 := [43, 193, 0, 1, 153, 0, 23, 42, 180, 0, 205, 43, 192, 0, 1, 182, 0, 211, 160, 0, 7, 4]
abbrev dktJ14_equals_0 : List UInt8 := dkwJ14_equals_0 ++ dktJ14_equals_1
theorem dksJ14_equals_0 : cJ14_equals.data.toList.drop 0 = dktJ14_equals_0 := by decide +kernel
theorem dksJ14_equals_1 : cJ14_equals.data.toList.drop 22 = dktJ14_equals_1 := dk_seg dksJ14_equals_0 22 rfl rfl
theorem dJ14_equals_0 : decode cJ14_equals 0 = .ok (.aload_n 1, 1) := dk_43 (dk_at dksJ14_equals_0 0 rfl rfl)
theorem dJ14_equals_1 : decode cJ14_equals 1 = .ok (.instanceof 1, 3) := dk_193 0 1 (dk_at dksJ14_equals_0 1 rfl rfl)
theorem dJ14_equals_4 : decode cJ14_equals 4 = .ok (.ifCond .eq 23, 3) := dk_153 0 23 (dk_at dksJ14_equals_0 4 rfl rfl)
theorem dJ14_equals_7 : decode cJ14_equals 7 = .ok (.aload_n 0, 1) := dk_42 (dk_at dksJ14_equals_0 7 rfl rfl)
theorem dJ14_equals_8 : decode cJ14_equals 8 = .ok (.getfield 205, 3) := dk_180 0 205 (dk_at dksJ14_equals_0 8 rfl rfl)
theorem dJ14_equals_11 : decode cJ14_equals 11 = .ok (.aload_n 1, 1) := dk_43 (dk_at dksJ14_equals_0 11 rfl rfl)
theorem dJ14_equals_12 : decode cJ14_equals 12 = .ok (.checkcast 1, 3) := dk_192 0 1 (dk_at dksJ14_equals_0 12 rfl rfl)
theorem dJ14_equals_15 : decode cJ14_equals 15 = .ok (.invokevirtual 211, 3) := dk_182 0 211 (dk_at dksJ14_equals_0 15 rfl rfl)
theorem dJ14_equals_18 : decode cJ14_equals 18 = .ok (.if_icmp .ne 7, 3) := dk_160 0 7 (dk_at dksJ14_equals_0 18 rfl rfl)
theorem dJ14_equals_21 : decode cJ14_equals 21 = .ok (.iconst 1, 1) := dk_4 (dk_at dksJ14_equals_0 21 rfl rfl)
theorem dJ14_equals_22 : decode cJ14_equals 22 = .ok (.goto 4, 3) := dk_167 0 4 (dk_at dksJ14_equals_1 0 rfl rfl)
theorem dJ14_equals_25 : decode cJ14_equals 25 = .ok (.iconst 0, 1) := dk_3 (dk_at dksJ14_equals_1 3 rfl rfl)
theorem dJ14_equals_26 : decode cJ14_equals 26 = .ok (.ireturn, 1) := dk_172 (dk_at dksJ14_equals_1 4 rfl rfl)
theorem dJ14_equals_27 : decode cJ14_equals 27 = .ok (.iconst 0, 1) := dk_3 (dk_at dksJ14_equals_1 5 rfl rfl)
theorem dJ14_equals_28 : decode cJ14_equals 28 = .ok (.ireturn, 1) := dk_172 (dk_at dksJ14_equals_1 6 rfl rfl)
abbrev cJ14_intValue : ByteArray := prog_35_method_27_code
def yJ14_intValue : MethodName := ⟨RJ14, "intValue", "()I"⟩
theorem dJ14_intValue_0 : decode cJ14_intValue 0 = .ok (.aload_n 0, 1) := by decide +kernel
theorem dJ14_intValue_1 : decode cJ14_intValue 1 = .ok (.getfield 205, 3) := by decide +kernel
theorem dJ14_intValue_4 : decode cJ14_intValue 4 = .ok (.ireturn, 1) := by decide +kernel
abbrev cJ14_valueOf : ByteArray := prog_35_method_22_code
def yJ14_valueOf : MethodName := ⟨RJ14, "valueOf", "(I)Ljava/lang/Integer;"⟩
def dkwJ14_valueOf_1 : List UInt8 := [187, 0, 1, 89, 26, 183, 0, 199, 176]
abbrev dktJ14_valueOf_1 : List UInt8 := dkwJ14_valueOf_1 ++ []
def dkwJ14_valueOf_0 : List UInt8 := [26, 16, 128, 161, 0, 20, 26, 178, 0, 191, 163, 0, 13, 178, 0, 195, 26, 17, 0, 128, 96, 50, 176]
abbrev dktJ14_valueOf_0 : List UInt8 := dkwJ14_valueOf_0 ++ dktJ14_valueOf_1
theorem dksJ14_valueOf_0 : cJ14_valueOf.data.toList.drop 0 = dktJ14_valueOf_0 := by decide +kernel
theorem dksJ14_valueOf_1 : cJ14_valueOf.data.toList.drop 23 = dktJ14_valueOf_1 := dk_seg dksJ14_valueOf_0 23 rfl rfl
theorem dJ14_valueOf_0 : decode cJ14_valueOf 0 = .ok (.iload_n 0, 1) := dk_26 (dk_at dksJ14_valueOf_0 0 rfl rfl)
theorem dJ14_valueOf_1 : decode cJ14_valueOf 1 = .ok (.bipush (-128), 2) := dk_16 128 (dk_at dksJ14_valueOf_0 1 rfl rfl)
theorem dJ14_valueOf_3 : decode cJ14_valueOf 3 = .ok (.if_icmp .lt 20, 3) := dk_161 0 20 (dk_at dksJ14_valueOf_0 3 rfl rfl)
theorem dJ14_valueOf_6 : decode cJ14_valueOf 6 = .ok (.iload_n 0, 1) := dk_26 (dk_at dksJ14_valueOf_0 6 rfl rfl)
theorem dJ14_valueOf_7 : decode cJ14_valueOf 7 = .ok (.getstatic 191, 3) := dk_178 0 191 (dk_at dksJ14_valueOf_0 7 rfl rfl)
theorem dJ14_valueOf_10 : decode cJ14_valueOf 10 = .ok (.if_icmp .gt 13, 3) := dk_163 0 13 (dk_at dksJ14_valueOf_0 10 rfl rfl)
theorem dJ14_valueOf_13 : decode cJ14_valueOf 13 = .ok (.getstatic 195, 3) := dk_178 0 195 (dk_at dksJ14_valueOf_0 13 rfl rfl)
theorem dJ14_valueOf_16 : decode cJ14_valueOf 16 = .ok (.iload_n 0, 1) := dk_26 (dk_at dksJ14_valueOf_0 16 rfl rfl)
theorem dJ14_valueOf_17 : decode cJ14_valueOf 17 = .ok (.sipush 128, 3) := dk_17 0 128 (dk_at dksJ14_valueOf_0 17 rfl rfl)
theorem dJ14_valueOf_20 : decode cJ14_valueOf 20 = .ok (.iadd, 1) := dk_96 (dk_at dksJ14_valueOf_0 20 rfl rfl)
theorem dJ14_valueOf_21 : decode cJ14_valueOf 21 = .ok (.aaload, 1) := dk_50 (dk_at dksJ14_valueOf_0 21 rfl rfl)
theorem dJ14_valueOf_22 : decode cJ14_valueOf 22 = .ok (.areturn, 1) := dk_176 (dk_at dksJ14_valueOf_0 22 rfl rfl)
theorem dJ14_valueOf_23 : decode cJ14_valueOf 23 = .ok (.new 1, 3) := dk_187 0 1 (dk_at dksJ14_valueOf_1 0 rfl rfl)
theorem dJ14_valueOf_26 : decode cJ14_valueOf 26 = .ok (.dup, 1) := dk_89 (dk_at dksJ14_valueOf_1 3 rfl rfl)
theorem dJ14_valueOf_27 : decode cJ14_valueOf 27 = .ok (.iload_n 0, 1) := dk_26 (dk_at dksJ14_valueOf_1 4 rfl rfl)
theorem dJ14_valueOf_28 : decode cJ14_valueOf 28 = .ok (.invokespecial 199, 3) := dk_183 0 199 (dk_at dksJ14_valueOf_1 5 rfl rfl)
theorem dJ14_valueOf_31 : decode cJ14_valueOf 31 = .ok (.areturn, 1) := dk_176 (dk_at dksJ14_valueOf_1 8 rfl rfl)
abbrev cJ14_init : ByteArray := prog_35_method_23_code
def yJ14_init : MethodName := ⟨RJ14, "<init>", "(I)V"⟩
def dkwJ14_init_0 : List UInt8 := [42, 183, 0, 202, 42, 27, 181, 0, 205, 177]
abbrev dktJ14_init_0 : List UInt8 := dkwJ14_init_0 ++ []
theorem dksJ14_init_0 : cJ14_init.data.toList.drop 0 = dktJ14_init_0 := by decide +kernel
theorem dJ14_init_0 : decode cJ14_init 0 = .ok (.aload_n 0, 1) := dk_42 (dk_at dksJ14_init_0 0 rfl rfl)
theorem dJ14_init_1 : decode cJ14_init 1 = .ok (.invokespecial 202, 3) := dk_183 0 202 (dk_at dksJ14_init_0 1 rfl rfl)
theorem dJ14_init_4 : decode cJ14_init 4 = .ok (.aload_n 0, 1) := dk_42 (dk_at dksJ14_init_0 4 rfl rfl)
theorem dJ14_init_5 : decode cJ14_init 5 = .ok (.iload_n 1, 1) := dk_27 (dk_at dksJ14_init_0 5 rfl rfl)
theorem dJ14_init_6 : decode cJ14_init 6 = .ok (.putfield 205, 3) := dk_181 0 205 (dk_at dksJ14_init_0 6 rfl rfl)
theorem dJ14_init_9 : decode cJ14_init 9 = .ok (.return_, 1) := dk_177 (dk_at dksJ14_init_0 9 rfl rfl)
abbrev cJ14_bitCount : ByteArray := prog_35_method_49_code
def yJ14_bitCount : MethodName := ⟨RJ14, "bitCount", "(I)I"⟩
def dkwJ14_bitCount_2 : List UInt8 := [26, 16, 63, 126, 172]
abbrev dktJ14_bitCount_2 : List UInt8 := dkwJ14_bitCount_2 ++ []
def dkwJ14_bitCount_1 : List UInt8 := [26, 26, 7, 124, 96, 19, 1, 11, 126, 59, 26, 26, 16, 8, 124, 96, 59, 26, 26, 16, 16, 124, 96, 59]
abbrev dktJ14_bitCount_1 : List UInt8 := dkwJ14_bitCount_1 ++ dktJ14_bitCount_2
def dkwJ14_bitCount_0 : List UInt8 := [26, 26, 4, 124, 19, 1, 9, 126, 100, 59, 26, 19, 1, 10, 126, 26, 5, 124, 19, 1, 10, 126, 96, 59]
abbrev dktJ14_bitCount_0 : List UInt8 := dkwJ14_bitCount_0 ++ dktJ14_bitCount_1
theorem dksJ14_bitCount_0 : cJ14_bitCount.data.toList.drop 0 = dktJ14_bitCount_0 := by decide +kernel
theorem dksJ14_bitCount_1 : cJ14_bitCount.data.toList.drop 24 = dktJ14_bitCount_1 := dk_seg dksJ14_bitCount_0 24 rfl rfl
theorem dksJ14_bitCount_2 : cJ14_bitCount.data.toList.drop 48 = dktJ14_bitCount_2 := dk_seg dksJ14_bitCount_1 24 rfl rfl
theorem dJ14_bitCount_0 : decode cJ14_bitCount 0 = .ok (.iload_n 0, 1) := dk_26 (dk_at dksJ14_bitCount_0 0 rfl rfl)
theorem dJ14_bitCount_1 : decode cJ14_bitCount 1 = .ok (.iload_n 0, 1) := dk_26 (dk_at dksJ14_bitCount_0 1 rfl rfl)
theorem dJ14_bitCount_2 : decode cJ14_bitCount 2 = .ok (.iconst 1, 1) := dk_4 (dk_at dksJ14_bitCount_0 2 rfl rfl)
theorem dJ14_bitCount_3 : decode cJ14_bitCount 3 = .ok (.iushr, 1) := dk_124 (dk_at dksJ14_bitCount_0 3 rfl rfl)
theorem dJ14_bitCount_4 : decode cJ14_bitCount 4 = .ok (.ldc_w 265, 3) := dk_19 1 9 (dk_at dksJ14_bitCount_0 4 rfl rfl)
theorem dJ14_bitCount_7 : decode cJ14_bitCount 7 = .ok (.iand, 1) := dk_126 (dk_at dksJ14_bitCount_0 7 rfl rfl)
theorem dJ14_bitCount_8 : decode cJ14_bitCount 8 = .ok (.isub, 1) := dk_100 (dk_at dksJ14_bitCount_0 8 rfl rfl)
theorem dJ14_bitCount_9 : decode cJ14_bitCount 9 = .ok (.istore_n 0, 1) := dk_59 (dk_at dksJ14_bitCount_0 9 rfl rfl)
theorem dJ14_bitCount_10 : decode cJ14_bitCount 10 = .ok (.iload_n 0, 1) := dk_26 (dk_at dksJ14_bitCount_0 10 rfl rfl)
theorem dJ14_bitCount_11 : decode cJ14_bitCount 11 = .ok (.ldc_w 266, 3) := dk_19 1 10 (dk_at dksJ14_bitCount_0 11 rfl rfl)
theorem dJ14_bitCount_14 : decode cJ14_bitCount 14 = .ok (.iand, 1) := dk_126 (dk_at dksJ14_bitCount_0 14 rfl rfl)
theorem dJ14_bitCount_15 : decode cJ14_bitCount 15 = .ok (.iload_n 0, 1) := dk_26 (dk_at dksJ14_bitCount_0 15 rfl rfl)
theorem dJ14_bitCount_16 : decode cJ14_bitCount 16 = .ok (.iconst 2, 1) := dk_5 (dk_at dksJ14_bitCount_0 16 rfl rfl)
theorem dJ14_bitCount_17 : decode cJ14_bitCount 17 = .ok (.iushr, 1) := dk_124 (dk_at dksJ14_bitCount_0 17 rfl rfl)
theorem dJ14_bitCount_18 : decode cJ14_bitCount 18 = .ok (.ldc_w 266, 3) := dk_19 1 10 (dk_at dksJ14_bitCount_0 18 rfl rfl)
theorem dJ14_bitCount_21 : decode cJ14_bitCount 21 = .ok (.iand, 1) := dk_126 (dk_at dksJ14_bitCount_0 21 rfl rfl)
theorem dJ14_bitCount_22 : decode cJ14_bitCount 22 = .ok (.iadd, 1) := dk_96 (dk_at dksJ14_bitCount_0 22 rfl rfl)
theorem dJ14_bitCount_23 : decode cJ14_bitCount 23 = .ok (.istore_n 0, 1) := dk_59 (dk_at dksJ14_bitCount_0 23 rfl rfl)
theorem dJ14_bitCount_24 : decode cJ14_bitCount 24 = .ok (.iload_n 0, 1) := dk_26 (dk_at dksJ14_bitCount_1 0 rfl rfl)
theorem dJ14_bitCount_25 : decode cJ14_bitCount 25 = .ok (.iload_n 0, 1) := dk_26 (dk_at dksJ14_bitCount_1 1 rfl rfl)
theorem dJ14_bitCount_26 : decode cJ14_bitCount 26 = .ok (.iconst 4, 1) := dk_7 (dk_at dksJ14_bitCount_1 2 rfl rfl)
theorem dJ14_bitCount_27 : decode cJ14_bitCount 27 = .ok (.iushr, 1) := dk_124 (dk_at dksJ14_bitCount_1 3 rfl rfl)
theorem dJ14_bitCount_28 : decode cJ14_bitCount 28 = .ok (.iadd, 1) := dk_96 (dk_at dksJ14_bitCount_1 4 rfl rfl)
theorem dJ14_bitCount_29 : decode cJ14_bitCount 29 = .ok (.ldc_w 267, 3) := dk_19 1 11 (dk_at dksJ14_bitCount_1 5 rfl rfl)
theorem dJ14_bitCount_32 : decode cJ14_bitCount 32 = .ok (.iand, 1) := dk_126 (dk_at dksJ14_bitCount_1 8 rfl rfl)
theorem dJ14_bitCount_33 : decode cJ14_bitCount 33 = .ok (.istore_n 0, 1) := dk_59 (dk_at dksJ14_bitCount_1 9 rfl rfl)
theorem dJ14_bitCount_34 : decode cJ14_bitCount 34 = .ok (.iload_n 0, 1) := dk_26 (dk_at dksJ14_bitCount_1 10 rfl rfl)
theorem dJ14_bitCount_35 : decode cJ14_bitCount 35 = .ok (.iload_n 0, 1) := dk_26 (dk_at dksJ14_bitCount_1 11 rfl rfl)
theorem dJ14_bitCount_36 : decode cJ14_bitCount 36 = .ok (.bipush 8, 2) := dk_16 8 (dk_at dksJ14_bitCount_1 12 rfl rfl)
theorem dJ14_bitCount_38 : decode cJ14_bitCount 38 = .ok (.iushr, 1) := dk_124 (dk_at dksJ14_bitCount_1 14 rfl rfl)
theorem dJ14_bitCount_39 : decode cJ14_bitCount 39 = .ok (.iadd, 1) := dk_96 (dk_at dksJ14_bitCount_1 15 rfl rfl)
theorem dJ14_bitCount_40 : decode cJ14_bitCount 40 = .ok (.istore_n 0, 1) := dk_59 (dk_at dksJ14_bitCount_1 16 rfl rfl)
theorem dJ14_bitCount_41 : decode cJ14_bitCount 41 = .ok (.iload_n 0, 1) := dk_26 (dk_at dksJ14_bitCount_1 17 rfl rfl)
theorem dJ14_bitCount_42 : decode cJ14_bitCount 42 = .ok (.iload_n 0, 1) := dk_26 (dk_at dksJ14_bitCount_1 18 rfl rfl)
theorem dJ14_bitCount_43 : decode cJ14_bitCount 43 = .ok (.bipush 16, 2) := dk_16 16 (dk_at dksJ14_bitCount_1 19 rfl rfl)
theorem dJ14_bitCount_45 : decode cJ14_bitCount 45 = .ok (.iushr, 1) := dk_124 (dk_at dksJ14_bitCount_1 21 rfl rfl)
theorem dJ14_bitCount_46 : decode cJ14_bitCount 46 = .ok (.iadd, 1) := dk_96 (dk_at dksJ14_bitCount_1 22 rfl rfl)
theorem dJ14_bitCount_47 : decode cJ14_bitCount 47 = .ok (.istore_n 0, 1) := dk_59 (dk_at dksJ14_bitCount_1 23 rfl rfl)
theorem dJ14_bitCount_48 : decode cJ14_bitCount 48 = .ok (.iload_n 0, 1) := dk_26 (dk_at dksJ14_bitCount_2 0 rfl rfl)
theorem dJ14_bitCount_49 : decode cJ14_bitCount 49 = .ok (.bipush 63, 2) := dk_16 63 (dk_at dksJ14_bitCount_2 1 rfl rfl)
theorem dJ14_bitCount_51 : decode cJ14_bitCount 51 = .ok (.iand, 1) := dk_126 (dk_at dksJ14_bitCount_2 3 rfl rfl)
theorem dJ14_bitCount_52 : decode cJ14_bitCount 52 = .ok (.ireturn, 1) := dk_172 (dk_at dksJ14_bitCount_2 4 rfl rfl)
theorem q68 : (Jvm.Cond.initialized "java/lang/Integer") ∈ lw_all := lw_g (lw_at lw_m1 24 rfl) rfl
theorem q482 : (Jvm.Cond.selects "java/lang/Integer" ({ cls := "java/lang/Object", name := "hashCode", desc := "()I" } : Jvm.MethodName) ({ cls := "java/lang/Integer", name := "hashCode", desc := "()I" } : Jvm.MethodName)) ∈ lw_all := lw_g (lw_at lw_m2 198 rfl) rfl
theorem q483 : (Jvm.Cond.instanceMethod ({ cls := "java/lang/Integer", name := "hashCode", desc := "()I" } : Jvm.MethodName)) ∈ lw_all := lw_g (lw_at lw_m2 199 rfl) rfl
theorem q484 : (Jvm.Cond.code ({ cls := "java/lang/Integer", name := "hashCode", desc := "()I" } : Jvm.MethodName) prog_35_method_32_code (1 : Nat) (Option.some Jvm.ClassFile.FieldType.int)) ∈ lw_all := lw_g (lw_at lw_m2 200 rfl) rfl
theorem q485 : (Jvm.Cond.methodLink "java/lang/Integer" (208 : Nat) ({ cls := "java/lang/Integer", name := "hashCode", desc := "(I)I" } : Jvm.MethodName)) ∈ lw_all := lw_g (lw_at lw_m2 201 rfl) rfl
theorem q486 : (Jvm.Cond.static ({ cls := "java/lang/Integer", name := "hashCode", desc := "(I)I" } : Jvm.MethodName)) ∈ lw_all := lw_g (lw_at lw_m2 202 rfl) rfl
theorem q487 : (Jvm.Cond.code ({ cls := "java/lang/Integer", name := "hashCode", desc := "(I)I" } : Jvm.MethodName) prog_35_method_33_code (1 : Nat) (Option.some Jvm.ClassFile.FieldType.int)) ∈ lw_all := lw_g (lw_at lw_m2 203 rfl) rfl
theorem q584 : (Jvm.Cond.selects "java/lang/Integer" ({ cls := "java/lang/Object", name := "getClass", desc := "()Ljava/lang/Class;" } : Jvm.MethodName) ({ cls := "java/lang/Object", name := "getClass", desc := "()Ljava/lang/Class;" } : Jvm.MethodName)) ∈ lw_all := lw_g (lw_at lw_m3 60 rfl) rfl
theorem q601 : (Jvm.Cond.castable "java/lang/Integer" "java/lang/Comparable") ∈ lw_tbl := lw_at lw_m3 77 rfl
theorem q602 : (Jvm.Cond.selects "java/lang/Integer" ({ cls := "java/lang/Comparable", name := "compareTo", desc := "(Ljava/lang/Object;)I" } : Jvm.MethodName) ({ cls := "java/lang/Integer", name := "compareTo", desc := "(Ljava/lang/Object;)I" } : Jvm.MethodName)) ∈ lw_all := lw_g (lw_at lw_m3 78 rfl) rfl
theorem q603 : (Jvm.Cond.unhidden "java/lang/Integer" "compareTo" "(Ljava/lang/Object;)I") ∈ lw_tbl := lw_at lw_m3 79 rfl
theorem q604 : (Jvm.Cond.instanceMethod ({ cls := "java/lang/Integer", name := "compareTo", desc := "(Ljava/lang/Object;)I" } : Jvm.MethodName)) ∈ lw_all := lw_g (lw_at lw_m3 80 rfl) rfl
theorem q605 : (Jvm.Cond.publicMethod ({ cls := "java/lang/Integer", name := "compareTo", desc := "(Ljava/lang/Object;)I" } : Jvm.MethodName)) ∈ lw_tbl := lw_at lw_m3 81 rfl
theorem q606 : (Jvm.Cond.code ({ cls := "java/lang/Integer", name := "compareTo", desc := "(Ljava/lang/Object;)I" } : Jvm.MethodName) prog_35_method_63_code (2 : Nat) (Option.some Jvm.ClassFile.FieldType.int)) ∈ lw_all := lw_g (lw_at lw_m3 82 rfl) rfl
theorem q607 : (Jvm.Cond.classLink "java/lang/Integer" (1 : Nat) "java/lang/Integer") ∈ lw_all := lw_g (lw_at lw_m3 83 rfl) rfl
theorem q608 : (Jvm.Cond.methodLink "java/lang/Integer" (284 : Nat) ({ cls := "java/lang/Integer", name := "compareTo", desc := "(Ljava/lang/Integer;)I" } : Jvm.MethodName)) ∈ lw_all := lw_g (lw_at lw_m3 84 rfl) rfl
theorem q609 : (Jvm.Cond.instanceMethod ({ cls := "java/lang/Integer", name := "compareTo", desc := "(Ljava/lang/Integer;)I" } : Jvm.MethodName)) ∈ lw_all := lw_g (lw_at lw_m3 85 rfl) rfl
theorem q610 : (Jvm.Cond.selects "java/lang/Integer" ({ cls := "java/lang/Integer", name := "compareTo", desc := "(Ljava/lang/Integer;)I" } : Jvm.MethodName) ({ cls := "java/lang/Integer", name := "compareTo", desc := "(Ljava/lang/Integer;)I" } : Jvm.MethodName)) ∈ lw_all := lw_g (lw_at lw_m3 86 rfl) rfl
theorem q611 : (Jvm.Cond.code ({ cls := "java/lang/Integer", name := "compareTo", desc := "(Ljava/lang/Integer;)I" } : Jvm.MethodName) prog_35_method_39_code (2 : Nat) (Option.some Jvm.ClassFile.FieldType.int)) ∈ lw_all := lw_g (lw_at lw_m3 87 rfl) rfl
theorem q612 : (Jvm.Cond.methodLink "java/lang/Integer" (259 : Nat) ({ cls := "java/lang/Integer", name := "compare", desc := "(II)I" } : Jvm.MethodName)) ∈ lw_all := lw_g (lw_at lw_m3 88 rfl) rfl
theorem q613 : (Jvm.Cond.static ({ cls := "java/lang/Integer", name := "compare", desc := "(II)I" } : Jvm.MethodName)) ∈ lw_all := lw_g (lw_at lw_m3 89 rfl) rfl
theorem q614 : (Jvm.Cond.code ({ cls := "java/lang/Integer", name := "compare", desc := "(II)I" } : Jvm.MethodName) prog_35_method_40_code (2 : Nat) (Option.some Jvm.ClassFile.FieldType.int)) ∈ lw_all := lw_g (lw_at lw_m3 90 rfl) rfl
theorem q666 : (Jvm.Cond.selects "java/lang/Integer" ({ cls := "java/lang/Object", name := "equals", desc := "(Ljava/lang/Object;)Z" } : Jvm.MethodName) ({ cls := "java/lang/Integer", name := "equals", desc := "(Ljava/lang/Object;)Z" } : Jvm.MethodName)) ∈ lw_all := lw_g (lw_at lw_m3 142 rfl) rfl
theorem q667 : (Jvm.Cond.instanceMethod ({ cls := "java/lang/Integer", name := "equals", desc := "(Ljava/lang/Object;)Z" } : Jvm.MethodName)) ∈ lw_all := lw_g (lw_at lw_m3 143 rfl) rfl
theorem q668 : (Jvm.Cond.code ({ cls := "java/lang/Integer", name := "equals", desc := "(Ljava/lang/Object;)Z" } : Jvm.MethodName) prog_35_method_34_code (2 : Nat) (Option.some Jvm.ClassFile.FieldType.boolean)) ∈ lw_all := lw_g (lw_at lw_m3 144 rfl) rfl
theorem q669 : (Jvm.Cond.methodLink "java/lang/Integer" (211 : Nat) ({ cls := "java/lang/Integer", name := "intValue", desc := "()I" } : Jvm.MethodName)) ∈ lw_all := lw_g (lw_at lw_m3 145 rfl) rfl
theorem q670 : (Jvm.Cond.instanceMethod ({ cls := "java/lang/Integer", name := "intValue", desc := "()I" } : Jvm.MethodName)) ∈ lw_all := lw_g (lw_at lw_m3 146 rfl) rfl
theorem q671 : (Jvm.Cond.selects "java/lang/Integer" ({ cls := "java/lang/Integer", name := "intValue", desc := "()I" } : Jvm.MethodName) ({ cls := "java/lang/Integer", name := "intValue", desc := "()I" } : Jvm.MethodName)) ∈ lw_all := lw_g (lw_at lw_m3 147 rfl) rfl
theorem q672 : (Jvm.Cond.code ({ cls := "java/lang/Integer", name := "intValue", desc := "()I" } : Jvm.MethodName) prog_35_method_27_code (1 : Nat) (Option.some Jvm.ClassFile.FieldType.int)) ∈ lw_all := lw_g (lw_at lw_m3 148 rfl) rfl
theorem q749 : (Jvm.Cond.static ({ cls := "java/lang/Integer", name := "valueOf", desc := "(I)Ljava/lang/Integer;" } : Jvm.MethodName)) ∈ lw_all := lw_g (lw_at lw_m3 225 rfl) rfl
theorem q750 : (Jvm.Cond.code ({ cls := "java/lang/Integer", name := "valueOf", desc := "(I)Ljava/lang/Integer;" } : Jvm.MethodName) prog_35_method_22_code (1 : Nat) (Option.some (Jvm.ClassFile.FieldType.object "java/lang/Integer"))) ∈ lw_all := lw_g (lw_at lw_m3 226 rfl) rfl
theorem q751 : (Jvm.Cond.fieldLink "java/lang/Integer" (191 : Nat) "java/lang/Integer$IntegerCache" "high" "I") ∈ lw_all := lw_g (lw_at lw_m3 227 rfl) rfl
theorem q753 : (Jvm.Cond.fieldLink "java/lang/Integer" (195 : Nat) "java/lang/Integer$IntegerCache" "cache" "[Ljava/lang/Integer;") ∈ lw_all := lw_g (lw_at lw_m3 229 rfl) rfl
theorem q755 : (Jvm.Cond.instantiable "java/lang/Integer" (1 : Nat)) ∈ lw_all := lw_g (lw_at lw_m3 231 rfl) rfl
theorem q756 : (Jvm.Cond.methodLink "java/lang/Integer" (199 : Nat) ({ cls := "java/lang/Integer", name := "<init>", desc := "(I)V" } : Jvm.MethodName)) ∈ lw_all := lw_g (lw_at lw_m3 232 rfl) rfl
theorem q757 : (Jvm.Cond.instanceMethod ({ cls := "java/lang/Integer", name := "<init>", desc := "(I)V" } : Jvm.MethodName)) ∈ lw_all := lw_g (lw_at lw_m3 233 rfl) rfl
theorem q758 : (Jvm.Cond.code ({ cls := "java/lang/Integer", name := "<init>", desc := "(I)V" } : Jvm.MethodName) prog_35_method_23_code (2 : Nat) (Option.none : Option Jvm.ClassFile.FieldType)) ∈ lw_all := lw_g (lw_at lw_m3 234 rfl) rfl
theorem q759 : (Jvm.Cond.methodLink "java/lang/Integer" (202 : Nat) ({ cls := "java/lang/Number", name := "<init>", desc := "()V" } : Jvm.MethodName)) ∈ lw_all := lw_g (lw_at lw_m3 235 rfl) rfl
theorem q763 : (Jvm.Cond.fieldLink "java/lang/Integer" (205 : Nat) "java/lang/Integer" "value" "I") ∈ lw_all := lw_g (lw_at lw_m3 239 rfl) rfl
theorem q764 : (Jvm.Cond.laysFinal "java/lang/Integer" "java/lang/Integer" "value" "I") ∈ lw_all := lw_g (lw_at lw_m4 0 rfl) rfl
theorem q765 : (Jvm.Cond.soleField "java/lang/Integer" "value") ∈ lw_all := lw_g (lw_at lw_m4 1 rfl) rfl
theorem q766 : (Jvm.Cond.superclass "java/lang/Integer" "java/lang/Number") ∈ lw_all := lw_g (lw_at lw_m4 2 rfl) rfl
theorem q1143 : (Jvm.Cond.static ({ cls := "java/lang/Integer", name := "bitCount", desc := "(I)I" } : Jvm.MethodName)) ∈ lw_all := lw_g (lw_at lw_m5 139 rfl) rfl
theorem q1144 : (Jvm.Cond.code ({ cls := "java/lang/Integer", name := "bitCount", desc := "(I)I" } : Jvm.MethodName) prog_35_method_49_code (1 : Nat) (Option.some Jvm.ClassFile.FieldType.int)) ∈ lw_all := lw_g (lw_at lw_m5 140 rfl) rfl
theorem q1145 : (Jvm.Cond.constant "java/lang/Integer" (265 : Nat) (1431655765 : Int32)) ∈ lw_all := lw_g (lw_at lw_m5 141 rfl) rfl
theorem q1146 : (Jvm.Cond.constant "java/lang/Integer" (266 : Nat) (858993459 : Int32)) ∈ lw_all := lw_g (lw_at lw_m5 142 rfl) rfl
theorem q1147 : (Jvm.Cond.constant "java/lang/Integer" (267 : Nat) (252645135 : Int32)) ∈ lw_all := lw_g (lw_at lw_m5 143 rfl) rfl
theorem q2651 : (Jvm.Cond.castable "java/lang/Integer" "java/lang/Object") ∈ lw_tbl := lw_at lw_m11 207 rfl
theorem in_J14 : ∀ w ∈ wsJ140, w ∈ lw_all := lw_in wsJ140 [764] (by decide +kernel) (by decide +kernel)
/-! jdk/internal/util/ArraysSupport -/
set_option maxRecDepth 100000
def RJ15 : String := "jdk/internal/util/ArraysSupport"
abbrev cJ15_newLength : ByteArray := prog_66_method_27_code
def yJ15_newLength : MethodName := ⟨RJ15, "newLength", "(III)I"⟩
def dkwJ15_newLength_1 : List UInt8 := [184, 0, 201, 172]
abbrev dktJ15_newLength_1 : List UInt8 := dkwJ15_newLength_1 ++ []
def dkwJ15_newLength_0 : List UInt8 := [26, 27, 28, 184, 0, 194, 96, 62, 3, 29, 162, 0, 11, 29, 18, 200, 163, 0, 5, 29, 172, 26, 27]
abbrev dktJ15_newLength_0 : List UInt8 := dkwJ15_newLength_0 ++ dktJ15_newLength_1
theorem dksJ15_newLength_0 : cJ15_newLength.data.toList.drop 0 = dktJ15_newLength_0 := by decide +kernel
theorem dksJ15_newLength_1 : cJ15_newLength.data.toList.drop 23 = dktJ15_newLength_1 := dk_seg dksJ15_newLength_0 23 rfl rfl
theorem dJ15_newLength_0 : decode cJ15_newLength 0 = .ok (.iload_n 0, 1) := dk_26 (dk_at dksJ15_newLength_0 0 rfl rfl)
theorem dJ15_newLength_1 : decode cJ15_newLength 1 = .ok (.iload_n 1, 1) := dk_27 (dk_at dksJ15_newLength_0 1 rfl rfl)
theorem dJ15_newLength_2 : decode cJ15_newLength 2 = .ok (.iload_n 2, 1) := dk_28 (dk_at dksJ15_newLength_0 2 rfl rfl)
theorem dJ15_newLength_3 : decode cJ15_newLength 3 = .ok (.invokestatic 194, 3) := dk_184 0 194 (dk_at dksJ15_newLength_0 3 rfl rfl)
theorem dJ15_newLength_6 : decode cJ15_newLength 6 = .ok (.iadd, 1) := dk_96 (dk_at dksJ15_newLength_0 6 rfl rfl)
theorem dJ15_newLength_7 : decode cJ15_newLength 7 = .ok (.istore_n 3, 1) := dk_62 (dk_at dksJ15_newLength_0 7 rfl rfl)
theorem dJ15_newLength_8 : decode cJ15_newLength 8 = .ok (.iconst 0, 1) := dk_3 (dk_at dksJ15_newLength_0 8 rfl rfl)
theorem dJ15_newLength_9 : decode cJ15_newLength 9 = .ok (.iload_n 3, 1) := dk_29 (dk_at dksJ15_newLength_0 9 rfl rfl)
theorem dJ15_newLength_10 : decode cJ15_newLength 10 = .ok (.if_icmp .ge 11, 3) := dk_162 0 11 (dk_at dksJ15_newLength_0 10 rfl rfl)
theorem dJ15_newLength_13 : decode cJ15_newLength 13 = .ok (.iload_n 3, 1) := dk_29 (dk_at dksJ15_newLength_0 13 rfl rfl)
theorem dJ15_newLength_14 : decode cJ15_newLength 14 = .ok (.ldc 200, 2) := dk_18 200 (dk_at dksJ15_newLength_0 14 rfl rfl)
theorem dJ15_newLength_16 : decode cJ15_newLength 16 = .ok (.if_icmp .gt 5, 3) := dk_163 0 5 (dk_at dksJ15_newLength_0 16 rfl rfl)
theorem dJ15_newLength_19 : decode cJ15_newLength 19 = .ok (.iload_n 3, 1) := dk_29 (dk_at dksJ15_newLength_0 19 rfl rfl)
theorem dJ15_newLength_20 : decode cJ15_newLength 20 = .ok (.ireturn, 1) := dk_172 (dk_at dksJ15_newLength_0 20 rfl rfl)
theorem dJ15_newLength_21 : decode cJ15_newLength 21 = .ok (.iload_n 0, 1) := dk_26 (dk_at dksJ15_newLength_0 21 rfl rfl)
theorem dJ15_newLength_22 : decode cJ15_newLength 22 = .ok (.iload_n 1, 1) := dk_27 (dk_at dksJ15_newLength_0 22 rfl rfl)
theorem dJ15_newLength_23 : decode cJ15_newLength 23 = .ok (.invokestatic 201, 3) := dk_184 0 201 (dk_at dksJ15_newLength_1 0 rfl rfl)
theorem dJ15_newLength_26 : decode cJ15_newLength 26 = .ok (.ireturn, 1) := dk_172 (dk_at dksJ15_newLength_1 3 rfl rfl)
abbrev cJ15_hugeLength : ByteArray := prog_66_method_28_code
def yJ15_hugeLength : MethodName := ⟨RJ15, "hugeLength", "(II)I"⟩
def dkwJ15_hugeLength_2 : List UInt8 := [191, 28, 18, 200, 163, 0, 6, 18, 200, 172, 28, 172]
abbrev dktJ15_hugeLength_2 : List UInt8 := dkwJ15_hugeLength_2 ++ []
def dkwJ15_hugeLength_1 : List UInt8 := [26, 182, 0, 98, 18, 208, 182, 0, 94, 27, 182, 0, 98, 18, 210, 182, 0, 94, 182, 0, 101, 183, 0, 212]
abbrev dktJ15_hugeLength_1 : List UInt8 := dkwJ15_hugeLength_1 ++ dktJ15_hugeLength_2
def dkwJ15_hugeLength_0 : List UInt8 := [26, 27, 96, 61, 28, 156, 0, 44, 187, 0, 204, 89, 187, 0, 89, 89, 183, 0, 91, 18, 206, 182, 0, 94]
abbrev dktJ15_hugeLength_0 : List UInt8 := dkwJ15_hugeLength_0 ++ dktJ15_hugeLength_1
theorem dksJ15_hugeLength_0 : cJ15_hugeLength.data.toList.drop 0 = dktJ15_hugeLength_0 := by decide +kernel
theorem dksJ15_hugeLength_1 : cJ15_hugeLength.data.toList.drop 24 = dktJ15_hugeLength_1 := dk_seg dksJ15_hugeLength_0 24 rfl rfl
theorem dksJ15_hugeLength_2 : cJ15_hugeLength.data.toList.drop 48 = dktJ15_hugeLength_2 := dk_seg dksJ15_hugeLength_1 24 rfl rfl
theorem dJ15_hugeLength_0 : decode cJ15_hugeLength 0 = .ok (.iload_n 0, 1) := dk_26 (dk_at dksJ15_hugeLength_0 0 rfl rfl)
theorem dJ15_hugeLength_1 : decode cJ15_hugeLength 1 = .ok (.iload_n 1, 1) := dk_27 (dk_at dksJ15_hugeLength_0 1 rfl rfl)
theorem dJ15_hugeLength_2 : decode cJ15_hugeLength 2 = .ok (.iadd, 1) := dk_96 (dk_at dksJ15_hugeLength_0 2 rfl rfl)
theorem dJ15_hugeLength_3 : decode cJ15_hugeLength 3 = .ok (.istore_n 2, 1) := dk_61 (dk_at dksJ15_hugeLength_0 3 rfl rfl)
theorem dJ15_hugeLength_4 : decode cJ15_hugeLength 4 = .ok (.iload_n 2, 1) := dk_28 (dk_at dksJ15_hugeLength_0 4 rfl rfl)
theorem dJ15_hugeLength_5 : decode cJ15_hugeLength 5 = .ok (.ifCond .ge 44, 3) := dk_156 0 44 (dk_at dksJ15_hugeLength_0 5 rfl rfl)
theorem dJ15_hugeLength_8 : decode cJ15_hugeLength 8 = .ok (.new 204, 3) := dk_187 0 204 (dk_at dksJ15_hugeLength_0 8 rfl rfl)
theorem dJ15_hugeLength_11 : decode cJ15_hugeLength 11 = .ok (.dup, 1) := dk_89 (dk_at dksJ15_hugeLength_0 11 rfl rfl)
theorem dJ15_hugeLength_12 : decode cJ15_hugeLength 12 = .ok (.new 89, 3) := dk_187 0 89 (dk_at dksJ15_hugeLength_0 12 rfl rfl)
theorem dJ15_hugeLength_15 : decode cJ15_hugeLength 15 = .ok (.dup, 1) := dk_89 (dk_at dksJ15_hugeLength_0 15 rfl rfl)
theorem dJ15_hugeLength_16 : decode cJ15_hugeLength 16 = .ok (.invokespecial 91, 3) := dk_183 0 91 (dk_at dksJ15_hugeLength_0 16 rfl rfl)
theorem dJ15_hugeLength_19 : decode cJ15_hugeLength 19 = .ok (.ldc 206, 2) := dk_18 206 (dk_at dksJ15_hugeLength_0 19 rfl rfl)
theorem dJ15_hugeLength_21 : decode cJ15_hugeLength 21 = .ok (.invokevirtual 94, 3) := dk_182 0 94 (dk_at dksJ15_hugeLength_0 21 rfl rfl)
theorem dJ15_hugeLength_24 : decode cJ15_hugeLength 24 = .ok (.iload_n 0, 1) := dk_26 (dk_at dksJ15_hugeLength_1 0 rfl rfl)
theorem dJ15_hugeLength_25 : decode cJ15_hugeLength 25 = .ok (.invokevirtual 98, 3) := dk_182 0 98 (dk_at dksJ15_hugeLength_1 1 rfl rfl)
theorem dJ15_hugeLength_28 : decode cJ15_hugeLength 28 = .ok (.ldc 208, 2) := dk_18 208 (dk_at dksJ15_hugeLength_1 4 rfl rfl)
theorem dJ15_hugeLength_30 : decode cJ15_hugeLength 30 = .ok (.invokevirtual 94, 3) := dk_182 0 94 (dk_at dksJ15_hugeLength_1 6 rfl rfl)
theorem dJ15_hugeLength_33 : decode cJ15_hugeLength 33 = .ok (.iload_n 1, 1) := dk_27 (dk_at dksJ15_hugeLength_1 9 rfl rfl)
theorem dJ15_hugeLength_34 : decode cJ15_hugeLength 34 = .ok (.invokevirtual 98, 3) := dk_182 0 98 (dk_at dksJ15_hugeLength_1 10 rfl rfl)
theorem dJ15_hugeLength_37 : decode cJ15_hugeLength 37 = .ok (.ldc 210, 2) := dk_18 210 (dk_at dksJ15_hugeLength_1 13 rfl rfl)
theorem dJ15_hugeLength_39 : decode cJ15_hugeLength 39 = .ok (.invokevirtual 94, 3) := dk_182 0 94 (dk_at dksJ15_hugeLength_1 15 rfl rfl)
theorem dJ15_hugeLength_42 : decode cJ15_hugeLength 42 = .ok (.invokevirtual 101, 3) := dk_182 0 101 (dk_at dksJ15_hugeLength_1 18 rfl rfl)
theorem dJ15_hugeLength_45 : decode cJ15_hugeLength 45 = .ok (.invokespecial 212, 3) := dk_183 0 212 (dk_at dksJ15_hugeLength_1 21 rfl rfl)
theorem dJ15_hugeLength_48 : decode cJ15_hugeLength 48 = .ok (.athrow, 1) := dk_191 (dk_at dksJ15_hugeLength_2 0 rfl rfl)
theorem dJ15_hugeLength_49 : decode cJ15_hugeLength 49 = .ok (.iload_n 2, 1) := dk_28 (dk_at dksJ15_hugeLength_2 1 rfl rfl)
theorem dJ15_hugeLength_50 : decode cJ15_hugeLength 50 = .ok (.ldc 200, 2) := dk_18 200 (dk_at dksJ15_hugeLength_2 2 rfl rfl)
theorem dJ15_hugeLength_52 : decode cJ15_hugeLength 52 = .ok (.if_icmp .gt 6, 3) := dk_163 0 6 (dk_at dksJ15_hugeLength_2 4 rfl rfl)
theorem dJ15_hugeLength_55 : decode cJ15_hugeLength 55 = .ok (.ldc 200, 2) := dk_18 200 (dk_at dksJ15_hugeLength_2 7 rfl rfl)
theorem dJ15_hugeLength_57 : decode cJ15_hugeLength 57 = .ok (.ireturn, 1) := dk_172 (dk_at dksJ15_hugeLength_2 9 rfl rfl)
theorem dJ15_hugeLength_58 : decode cJ15_hugeLength 58 = .ok (.iload_n 2, 1) := dk_28 (dk_at dksJ15_hugeLength_2 10 rfl rfl)
theorem dJ15_hugeLength_59 : decode cJ15_hugeLength 59 = .ok (.ireturn, 1) := dk_172 (dk_at dksJ15_hugeLength_2 11 rfl rfl)
theorem q70 : (Jvm.Cond.initialized "jdk/internal/util/ArraysSupport") ∈ lw_all := lw_g (lw_at lw_m1 26 rfl) rfl
theorem q951 : (Jvm.Cond.static ({ cls := "jdk/internal/util/ArraysSupport", name := "newLength", desc := "(III)I" } : Jvm.MethodName)) ∈ lw_all := lw_g (lw_at lw_m4 187 rfl) rfl
theorem q952 : (Jvm.Cond.code ({ cls := "jdk/internal/util/ArraysSupport", name := "newLength", desc := "(III)I" } : Jvm.MethodName) prog_66_method_27_code (4 : Nat) (Option.some Jvm.ClassFile.FieldType.int)) ∈ lw_all := lw_g (lw_at lw_m4 188 rfl) rfl
theorem q953 : (Jvm.Cond.methodLink "jdk/internal/util/ArraysSupport" (194 : Nat) ({ cls := "java/lang/Math", name := "max", desc := "(II)I" } : Jvm.MethodName)) ∈ lw_all := lw_g (lw_at lw_m4 189 rfl) rfl
theorem q954 : (Jvm.Cond.constant "jdk/internal/util/ArraysSupport" (200 : Nat) (2147483639 : Int32)) ∈ lw_all := lw_g (lw_at lw_m4 190 rfl) rfl
theorem q955 : (Jvm.Cond.methodLink "jdk/internal/util/ArraysSupport" (201 : Nat) ({ cls := "jdk/internal/util/ArraysSupport", name := "hugeLength", desc := "(II)I" } : Jvm.MethodName)) ∈ lw_all := lw_g (lw_at lw_m4 191 rfl) rfl
theorem q956 : (Jvm.Cond.static ({ cls := "jdk/internal/util/ArraysSupport", name := "hugeLength", desc := "(II)I" } : Jvm.MethodName)) ∈ lw_all := lw_g (lw_at lw_m4 192 rfl) rfl
theorem q957 : (Jvm.Cond.code ({ cls := "jdk/internal/util/ArraysSupport", name := "hugeLength", desc := "(II)I" } : Jvm.MethodName) prog_66_method_28_code (3 : Nat) (Option.some Jvm.ClassFile.FieldType.int)) ∈ lw_all := lw_g (lw_at lw_m4 193 rfl) rfl
/-! java/util/Arrays -/
set_option maxRecDepth 100000
def RJ16 : String := "java/util/Arrays"
abbrev cJ16_copyOf : ByteArray := prog_52_method_119_code
def yJ16_copyOf : MethodName := ⟨RJ16, "copyOf", "([Ljava/lang/Object;I)[Ljava/lang/Object;"⟩
def dkwJ16_copyOf_0 : List UInt8 := [42, 27, 42, 182, 0, 86, 184, 1, 44, 176]
abbrev dktJ16_copyOf_0 : List UInt8 := dkwJ16_copyOf_0 ++ []
theorem dksJ16_copyOf_0 : cJ16_copyOf.data.toList.drop 0 = dktJ16_copyOf_0 := by decide +kernel
theorem dJ16_copyOf_0 : decode cJ16_copyOf 0 = .ok (.aload_n 0, 1) := dk_42 (dk_at dksJ16_copyOf_0 0 rfl rfl)
theorem dJ16_copyOf_1 : decode cJ16_copyOf 1 = .ok (.iload_n 1, 1) := dk_27 (dk_at dksJ16_copyOf_0 1 rfl rfl)
theorem dJ16_copyOf_2 : decode cJ16_copyOf 2 = .ok (.aload_n 0, 1) := dk_42 (dk_at dksJ16_copyOf_0 2 rfl rfl)
theorem dJ16_copyOf_3 : decode cJ16_copyOf 3 = .ok (.invokevirtual 86, 3) := dk_182 0 86 (dk_at dksJ16_copyOf_0 3 rfl rfl)
theorem dJ16_copyOf_6 : decode cJ16_copyOf 6 = .ok (.invokestatic 300, 3) := dk_184 1 44 (dk_at dksJ16_copyOf_0 6 rfl rfl)
theorem dJ16_copyOf_9 : decode cJ16_copyOf 9 = .ok (.areturn, 1) := dk_176 (dk_at dksJ16_copyOf_0 9 rfl rfl)
abbrev cJ16_copyOf_2 : ByteArray := prog_52_method_120_code
def yJ16_copyOf_2 : MethodName := ⟨RJ16, "copyOf", "([Ljava/lang/Object;ILjava/lang/Class;)[Ljava/lang/Object;"⟩
def dkwJ16_copyOf_2_1 : List UInt8 := [78, 42, 3, 45, 3, 42, 190, 27, 184, 1, 48, 184, 0, 150, 45, 176]
abbrev dktJ16_copyOf_2_1 : List UInt8 := dkwJ16_copyOf_2_1 ++ []
def dkwJ16_copyOf_2_0 : List UInt8 := [44, 18, 110, 166, 0, 10, 27, 189, 0, 2, 167, 0, 14, 44, 182, 0, 90, 27, 184, 0, 95, 192, 0, 110]
abbrev dktJ16_copyOf_2_0 : List UInt8 := dkwJ16_copyOf_2_0 ++ dktJ16_copyOf_2_1
theorem dksJ16_copyOf_2_0 : cJ16_copyOf_2.data.toList.drop 0 = dktJ16_copyOf_2_0 := by decide +kernel
theorem dksJ16_copyOf_2_1 : cJ16_copyOf_2.data.toList.drop 24 = dktJ16_copyOf_2_1 := dk_seg dksJ16_copyOf_2_0 24 rfl rfl
theorem dJ16_copyOf_2_0 : decode cJ16_copyOf_2 0 = .ok (.aload_n 2, 1) := dk_44 (dk_at dksJ16_copyOf_2_0 0 rfl rfl)
theorem dJ16_copyOf_2_1 : decode cJ16_copyOf_2 1 = .ok (.ldc 110, 2) := dk_18 110 (dk_at dksJ16_copyOf_2_0 1 rfl rfl)
theorem dJ16_copyOf_2_3 : decode cJ16_copyOf_2 3 = .ok (.if_acmp .ne 10, 3) := dk_166 0 10 (dk_at dksJ16_copyOf_2_0 3 rfl rfl)
theorem dJ16_copyOf_2_6 : decode cJ16_copyOf_2 6 = .ok (.iload_n 1, 1) := dk_27 (dk_at dksJ16_copyOf_2_0 6 rfl rfl)
theorem dJ16_copyOf_2_7 : decode cJ16_copyOf_2 7 = .ok (.anewarray 2, 3) := dk_189 0 2 (dk_at dksJ16_copyOf_2_0 7 rfl rfl)
theorem dJ16_copyOf_2_10 : decode cJ16_copyOf_2 10 = .ok (.goto 14, 3) := dk_167 0 14 (dk_at dksJ16_copyOf_2_0 10 rfl rfl)
theorem dJ16_copyOf_2_13 : decode cJ16_copyOf_2 13 = .ok (.aload_n 2, 1) := dk_44 (dk_at dksJ16_copyOf_2_0 13 rfl rfl)
theorem dJ16_copyOf_2_14 : decode cJ16_copyOf_2 14 = .ok (.invokevirtual 90, 3) := dk_182 0 90 (dk_at dksJ16_copyOf_2_0 14 rfl rfl)
theorem dJ16_copyOf_2_17 : decode cJ16_copyOf_2 17 = .ok (.iload_n 1, 1) := dk_27 (dk_at dksJ16_copyOf_2_0 17 rfl rfl)
theorem dJ16_copyOf_2_18 : decode cJ16_copyOf_2 18 = .ok (.invokestatic 95, 3) := dk_184 0 95 (dk_at dksJ16_copyOf_2_0 18 rfl rfl)
theorem dJ16_copyOf_2_21 : decode cJ16_copyOf_2 21 = .ok (.checkcast 110, 3) := dk_192 0 110 (dk_at dksJ16_copyOf_2_0 21 rfl rfl)
theorem dJ16_copyOf_2_24 : decode cJ16_copyOf_2 24 = .ok (.astore_n 3, 1) := dk_78 (dk_at dksJ16_copyOf_2_1 0 rfl rfl)
theorem dJ16_copyOf_2_25 : decode cJ16_copyOf_2 25 = .ok (.aload_n 0, 1) := dk_42 (dk_at dksJ16_copyOf_2_1 1 rfl rfl)
theorem dJ16_copyOf_2_26 : decode cJ16_copyOf_2 26 = .ok (.iconst 0, 1) := dk_3 (dk_at dksJ16_copyOf_2_1 2 rfl rfl)
theorem dJ16_copyOf_2_27 : decode cJ16_copyOf_2 27 = .ok (.aload_n 3, 1) := dk_45 (dk_at dksJ16_copyOf_2_1 3 rfl rfl)
theorem dJ16_copyOf_2_28 : decode cJ16_copyOf_2 28 = .ok (.iconst 0, 1) := dk_3 (dk_at dksJ16_copyOf_2_1 4 rfl rfl)
theorem dJ16_copyOf_2_29 : decode cJ16_copyOf_2 29 = .ok (.aload_n 0, 1) := dk_42 (dk_at dksJ16_copyOf_2_1 5 rfl rfl)
theorem dJ16_copyOf_2_30 : decode cJ16_copyOf_2 30 = .ok (.arraylength, 1) := dk_190 (dk_at dksJ16_copyOf_2_1 6 rfl rfl)
theorem dJ16_copyOf_2_31 : decode cJ16_copyOf_2 31 = .ok (.iload_n 1, 1) := dk_27 (dk_at dksJ16_copyOf_2_1 7 rfl rfl)
theorem dJ16_copyOf_2_32 : decode cJ16_copyOf_2 32 = .ok (.invokestatic 304, 3) := dk_184 1 48 (dk_at dksJ16_copyOf_2_1 8 rfl rfl)
theorem dJ16_copyOf_2_35 : decode cJ16_copyOf_2 35 = .ok (.invokestatic 150, 3) := dk_184 0 150 (dk_at dksJ16_copyOf_2_1 11 rfl rfl)
theorem dJ16_copyOf_2_38 : decode cJ16_copyOf_2 38 = .ok (.aload_n 3, 1) := dk_45 (dk_at dksJ16_copyOf_2_1 14 rfl rfl)
theorem dJ16_copyOf_2_39 : decode cJ16_copyOf_2 39 = .ok (.areturn, 1) := dk_176 (dk_at dksJ16_copyOf_2_1 15 rfl rfl)
theorem q71 : (Jvm.Cond.initialized "java/util/Arrays") ∈ lw_all := lw_g (lw_at lw_m1 27 rfl) rfl
theorem q959 : (Jvm.Cond.static ({ cls := "java/util/Arrays", name := "copyOf", desc := "([Ljava/lang/Object;I)[Ljava/lang/Object;" } : Jvm.MethodName)) ∈ lw_all := lw_g (lw_at lw_m4 195 rfl) rfl
theorem q960 : (Jvm.Cond.code ({ cls := "java/util/Arrays", name := "copyOf", desc := "([Ljava/lang/Object;I)[Ljava/lang/Object;" } : Jvm.MethodName) prog_52_method_119_code (2 : Nat) (Option.some (Jvm.ClassFile.FieldType.array (Jvm.ClassFile.FieldType.object "java/lang/Object")))) ∈ lw_all := lw_g (lw_at lw_m4 196 rfl) rfl
theorem q961 : (Jvm.Cond.methodLink "java/util/Arrays" (86 : Nat) ({ cls := "java/lang/Object", name := "getClass", desc := "()Ljava/lang/Class;" } : Jvm.MethodName)) ∈ lw_all := lw_g (lw_at lw_m4 197 rfl) rfl
theorem q962 : (Jvm.Cond.methodLink "java/util/Arrays" (300 : Nat) ({ cls := "java/util/Arrays", name := "copyOf", desc := "([Ljava/lang/Object;ILjava/lang/Class;)[Ljava/lang/Object;" } : Jvm.MethodName)) ∈ lw_all := lw_g (lw_at lw_m4 198 rfl) rfl
theorem q963 : (Jvm.Cond.static ({ cls := "java/util/Arrays", name := "copyOf", desc := "([Ljava/lang/Object;ILjava/lang/Class;)[Ljava/lang/Object;" } : Jvm.MethodName)) ∈ lw_all := lw_g (lw_at lw_m4 199 rfl) rfl
theorem q964 : (Jvm.Cond.code ({ cls := "java/util/Arrays", name := "copyOf", desc := "([Ljava/lang/Object;ILjava/lang/Class;)[Ljava/lang/Object;" } : Jvm.MethodName) prog_52_method_120_code (4 : Nat) (Option.some (Jvm.ClassFile.FieldType.array (Jvm.ClassFile.FieldType.object "java/lang/Object")))) ∈ lw_all := lw_g (lw_at lw_m4 200 rfl) rfl
theorem q965 : (Jvm.Cond.classLink "java/util/Arrays" (110 : Nat) "[Ljava/lang/Object;") ∈ lw_all := lw_g (lw_at lw_m4 201 rfl) rfl
theorem q967 : (Jvm.Cond.classLink "java/util/Arrays" (2 : Nat) "java/lang/Object") ∈ lw_all := lw_g (lw_at lw_m4 203 rfl) rfl
theorem q968 : (Jvm.Cond.methodLink "java/util/Arrays" (304 : Nat) ({ cls := "java/lang/Math", name := "min", desc := "(II)I" } : Jvm.MethodName)) ∈ lw_all := lw_g (lw_at lw_m4 204 rfl) rfl
theorem q969 : (Jvm.Cond.methodLink "java/util/Arrays" (150 : Nat) ({ cls := "java/lang/System", name := "arraycopy", desc := "(Ljava/lang/Object;ILjava/lang/Object;II)V" } : Jvm.MethodName)) ∈ lw_all := lw_g (lw_at lw_m4 205 rfl) rfl
/-! java/util/ArrayList$Itr -/
set_option maxRecDepth 100000
def RJ17 : String := "java/util/ArrayList$Itr"
def TJ17 : u_T := fun k => match k with
  | 0 => ("java/util/ArrayList$Itr", "cursor", "I", false)
  | 1 => ("java/util/ArrayList$Itr", "lastRet", "I", false)
  | 2 => ("java/util/ArrayList$Itr", "expectedModCount", "I", false)
  | _ => ("java/util/ArrayList$Itr", "this$0", "Ljava/util/ArrayList;", true)
def tyJ17 : Nat → FieldType := fun k => match k with
  | 0 => .int
  | 1 => .int
  | 2 => .int
  | _ => .object "java/util/ArrayList"
abbrev wsJ170 : List Cond := u_ws RJ17 TJ17 4
theorem nmJ17 : ∀ a, a < 4 → ∀ b, b < 4 → a ≠ b → (TJ17 a).2.1 ≠ (TJ17 b).2.1 := by decide +kernel
theorem tyJ17_ok : ∀ k, k < 4 → parseFieldDescriptor (TJ17 k).2.2.1 = some (tyJ17 k) := by decide +kernel
abbrev cJ17_init : ByteArray := prog_51_method_1_code
def yJ17_init : MethodName := ⟨RJ17, "<init>", "(Ljava/util/ArrayList;)V"⟩
def dkwJ17_init_1 : List UInt8 := [181, 0, 22, 177]
abbrev dktJ17_init_1 : List UInt8 := dkwJ17_init_1 ++ []
def dkwJ17_init_0 : List UInt8 := [42, 43, 181, 0, 1, 42, 183, 0, 7, 42, 2, 181, 0, 13, 42, 42, 180, 0, 1, 180, 0, 17]
abbrev dktJ17_init_0 : List UInt8 := dkwJ17_init_0 ++ dktJ17_init_1
theorem dksJ17_init_0 : cJ17_init.data.toList.drop 0 = dktJ17_init_0 := by decide +kernel
theorem dksJ17_init_1 : cJ17_init.data.toList.drop 22 = dktJ17_init_1 := dk_seg dksJ17_init_0 22 rfl rfl
theorem dJ17_init_0 : decode cJ17_init 0 = .ok (.aload_n 0, 1) := dk_42 (dk_at dksJ17_init_0 0 rfl rfl)
theorem dJ17_init_1 : decode cJ17_init 1 = .ok (.aload_n 1, 1) := dk_43 (dk_at dksJ17_init_0 1 rfl rfl)
theorem dJ17_init_2 : decode cJ17_init 2 = .ok (.putfield 1, 3) := dk_181 0 1 (dk_at dksJ17_init_0 2 rfl rfl)
theorem dJ17_init_5 : decode cJ17_init 5 = .ok (.aload_n 0, 1) := dk_42 (dk_at dksJ17_init_0 5 rfl rfl)
theorem dJ17_init_6 : decode cJ17_init 6 = .ok (.invokespecial 7, 3) := dk_183 0 7 (dk_at dksJ17_init_0 6 rfl rfl)
theorem dJ17_init_9 : decode cJ17_init 9 = .ok (.aload_n 0, 1) := dk_42 (dk_at dksJ17_init_0 9 rfl rfl)
theorem dJ17_init_10 : decode cJ17_init 10 = .ok (.iconst (-1), 1) := dk_2 (dk_at dksJ17_init_0 10 rfl rfl)
theorem dJ17_init_11 : decode cJ17_init 11 = .ok (.putfield 13, 3) := dk_181 0 13 (dk_at dksJ17_init_0 11 rfl rfl)
theorem dJ17_init_14 : decode cJ17_init 14 = .ok (.aload_n 0, 1) := dk_42 (dk_at dksJ17_init_0 14 rfl rfl)
theorem dJ17_init_15 : decode cJ17_init 15 = .ok (.aload_n 0, 1) := dk_42 (dk_at dksJ17_init_0 15 rfl rfl)
theorem dJ17_init_16 : decode cJ17_init 16 = .ok (.getfield 1, 3) := dk_180 0 1 (dk_at dksJ17_init_0 16 rfl rfl)
theorem dJ17_init_19 : decode cJ17_init 19 = .ok (.getfield 17, 3) := dk_180 0 17 (dk_at dksJ17_init_0 19 rfl rfl)
theorem dJ17_init_22 : decode cJ17_init 22 = .ok (.putfield 22, 3) := dk_181 0 22 (dk_at dksJ17_init_1 0 rfl rfl)
theorem dJ17_init_25 : decode cJ17_init 25 = .ok (.return_, 1) := dk_177 (dk_at dksJ17_init_1 3 rfl rfl)
abbrev cJ17_hasNext : ByteArray := prog_51_method_2_code
def yJ17_hasNext : MethodName := ⟨RJ17, "hasNext", "()Z"⟩
def dkwJ17_hasNext_0 : List UInt8 := [42, 180, 0, 25, 42, 180, 0, 1, 180, 0, 28, 159, 0, 7, 4, 167, 0, 4, 3, 172]
abbrev dktJ17_hasNext_0 : List UInt8 := dkwJ17_hasNext_0 ++ []
theorem dksJ17_hasNext_0 : cJ17_hasNext.data.toList.drop 0 = dktJ17_hasNext_0 := by decide +kernel
theorem dJ17_hasNext_0 : decode cJ17_hasNext 0 = .ok (.aload_n 0, 1) := dk_42 (dk_at dksJ17_hasNext_0 0 rfl rfl)
theorem dJ17_hasNext_1 : decode cJ17_hasNext 1 = .ok (.getfield 25, 3) := dk_180 0 25 (dk_at dksJ17_hasNext_0 1 rfl rfl)
theorem dJ17_hasNext_4 : decode cJ17_hasNext 4 = .ok (.aload_n 0, 1) := dk_42 (dk_at dksJ17_hasNext_0 4 rfl rfl)
theorem dJ17_hasNext_5 : decode cJ17_hasNext 5 = .ok (.getfield 1, 3) := dk_180 0 1 (dk_at dksJ17_hasNext_0 5 rfl rfl)
theorem dJ17_hasNext_8 : decode cJ17_hasNext 8 = .ok (.getfield 28, 3) := dk_180 0 28 (dk_at dksJ17_hasNext_0 8 rfl rfl)
theorem dJ17_hasNext_11 : decode cJ17_hasNext 11 = .ok (.if_icmp .eq 7, 3) := dk_159 0 7 (dk_at dksJ17_hasNext_0 11 rfl rfl)
theorem dJ17_hasNext_14 : decode cJ17_hasNext 14 = .ok (.iconst 1, 1) := dk_4 (dk_at dksJ17_hasNext_0 14 rfl rfl)
theorem dJ17_hasNext_15 : decode cJ17_hasNext 15 = .ok (.goto 4, 3) := dk_167 0 4 (dk_at dksJ17_hasNext_0 15 rfl rfl)
theorem dJ17_hasNext_18 : decode cJ17_hasNext 18 = .ok (.iconst 0, 1) := dk_3 (dk_at dksJ17_hasNext_0 18 rfl rfl)
theorem dJ17_hasNext_19 : decode cJ17_hasNext 19 = .ok (.ireturn, 1) := dk_172 (dk_at dksJ17_hasNext_0 19 rfl rfl)
abbrev cJ17_next : ByteArray := prog_51_method_3_code
def yJ17_next : MethodName := ⟨RJ17, "next", "()Ljava/lang/Object;"⟩
def dkwJ17_next_2 : List UInt8 := [183, 0, 43, 191, 42, 27, 4, 96, 181, 0, 25, 44, 42, 27, 90, 181, 0, 13, 50, 176]
abbrev dktJ17_next_2 : List UInt8 := dkwJ17_next_2 ++ []
def dkwJ17_next_1 : List UInt8 := [183, 0, 36, 191, 42, 180, 0, 1, 180, 0, 37, 77, 27, 44, 190, 161, 0, 11, 187, 0, 41, 89]
abbrev dktJ17_next_1 : List UInt8 := dkwJ17_next_1 ++ dktJ17_next_2
def dkwJ17_next_0 : List UInt8 := [42, 182, 0, 31, 42, 180, 0, 25, 60, 27, 42, 180, 0, 1, 180, 0, 28, 161, 0, 11, 187, 0, 34, 89]
abbrev dktJ17_next_0 : List UInt8 := dkwJ17_next_0 ++ dktJ17_next_1
theorem dksJ17_next_0 : cJ17_next.data.toList.drop 0 = dktJ17_next_0 := by decide +kernel
theorem dksJ17_next_1 : cJ17_next.data.toList.drop 24 = dktJ17_next_1 := dk_seg dksJ17_next_0 24 rfl rfl
theorem dksJ17_next_2 : cJ17_next.data.toList.drop 46 = dktJ17_next_2 := dk_seg dksJ17_next_1 22 rfl rfl
theorem dJ17_next_0 : decode cJ17_next 0 = .ok (.aload_n 0, 1) := dk_42 (dk_at dksJ17_next_0 0 rfl rfl)
theorem dJ17_next_1 : decode cJ17_next 1 = .ok (.invokevirtual 31, 3) := dk_182 0 31 (dk_at dksJ17_next_0 1 rfl rfl)
theorem dJ17_next_4 : decode cJ17_next 4 = .ok (.aload_n 0, 1) := dk_42 (dk_at dksJ17_next_0 4 rfl rfl)
theorem dJ17_next_5 : decode cJ17_next 5 = .ok (.getfield 25, 3) := dk_180 0 25 (dk_at dksJ17_next_0 5 rfl rfl)
theorem dJ17_next_8 : decode cJ17_next 8 = .ok (.istore_n 1, 1) := dk_60 (dk_at dksJ17_next_0 8 rfl rfl)
theorem dJ17_next_9 : decode cJ17_next 9 = .ok (.iload_n 1, 1) := dk_27 (dk_at dksJ17_next_0 9 rfl rfl)
theorem dJ17_next_10 : decode cJ17_next 10 = .ok (.aload_n 0, 1) := dk_42 (dk_at dksJ17_next_0 10 rfl rfl)
theorem dJ17_next_11 : decode cJ17_next 11 = .ok (.getfield 1, 3) := dk_180 0 1 (dk_at dksJ17_next_0 11 rfl rfl)
theorem dJ17_next_14 : decode cJ17_next 14 = .ok (.getfield 28, 3) := dk_180 0 28 (dk_at dksJ17_next_0 14 rfl rfl)
theorem dJ17_next_17 : decode cJ17_next 17 = .ok (.if_icmp .lt 11, 3) := dk_161 0 11 (dk_at dksJ17_next_0 17 rfl rfl)
theorem dJ17_next_20 : decode cJ17_next 20 = .ok (.new 34, 3) := dk_187 0 34 (dk_at dksJ17_next_0 20 rfl rfl)
theorem dJ17_next_23 : decode cJ17_next 23 = .ok (.dup, 1) := dk_89 (dk_at dksJ17_next_0 23 rfl rfl)
theorem dJ17_next_24 : decode cJ17_next 24 = .ok (.invokespecial 36, 3) := dk_183 0 36 (dk_at dksJ17_next_1 0 rfl rfl)
theorem dJ17_next_27 : decode cJ17_next 27 = .ok (.athrow, 1) := dk_191 (dk_at dksJ17_next_1 3 rfl rfl)
theorem dJ17_next_28 : decode cJ17_next 28 = .ok (.aload_n 0, 1) := dk_42 (dk_at dksJ17_next_1 4 rfl rfl)
theorem dJ17_next_29 : decode cJ17_next 29 = .ok (.getfield 1, 3) := dk_180 0 1 (dk_at dksJ17_next_1 5 rfl rfl)
theorem dJ17_next_32 : decode cJ17_next 32 = .ok (.getfield 37, 3) := dk_180 0 37 (dk_at dksJ17_next_1 8 rfl rfl)
theorem dJ17_next_35 : decode cJ17_next 35 = .ok (.astore_n 2, 1) := dk_77 (dk_at dksJ17_next_1 11 rfl rfl)
theorem dJ17_next_36 : decode cJ17_next 36 = .ok (.iload_n 1, 1) := dk_27 (dk_at dksJ17_next_1 12 rfl rfl)
theorem dJ17_next_37 : decode cJ17_next 37 = .ok (.aload_n 2, 1) := dk_44 (dk_at dksJ17_next_1 13 rfl rfl)
theorem dJ17_next_38 : decode cJ17_next 38 = .ok (.arraylength, 1) := dk_190 (dk_at dksJ17_next_1 14 rfl rfl)
theorem dJ17_next_39 : decode cJ17_next 39 = .ok (.if_icmp .lt 11, 3) := dk_161 0 11 (dk_at dksJ17_next_1 15 rfl rfl)
theorem dJ17_next_42 : decode cJ17_next 42 = .ok (.new 41, 3) := dk_187 0 41 (dk_at dksJ17_next_1 18 rfl rfl)
theorem dJ17_next_45 : decode cJ17_next 45 = .ok (.dup, 1) := dk_89 (dk_at dksJ17_next_1 21 rfl rfl)
theorem dJ17_next_46 : decode cJ17_next 46 = .ok (.invokespecial 43, 3) := dk_183 0 43 (dk_at dksJ17_next_2 0 rfl rfl)
theorem dJ17_next_49 : decode cJ17_next 49 = .ok (.athrow, 1) := dk_191 (dk_at dksJ17_next_2 3 rfl rfl)
theorem dJ17_next_50 : decode cJ17_next 50 = .ok (.aload_n 0, 1) := dk_42 (dk_at dksJ17_next_2 4 rfl rfl)
theorem dJ17_next_51 : decode cJ17_next 51 = .ok (.iload_n 1, 1) := dk_27 (dk_at dksJ17_next_2 5 rfl rfl)
theorem dJ17_next_52 : decode cJ17_next 52 = .ok (.iconst 1, 1) := dk_4 (dk_at dksJ17_next_2 6 rfl rfl)
theorem dJ17_next_53 : decode cJ17_next 53 = .ok (.iadd, 1) := dk_96 (dk_at dksJ17_next_2 7 rfl rfl)
theorem dJ17_next_54 : decode cJ17_next 54 = .ok (.putfield 25, 3) := dk_181 0 25 (dk_at dksJ17_next_2 8 rfl rfl)
theorem dJ17_next_57 : decode cJ17_next 57 = .ok (.aload_n 2, 1) := dk_44 (dk_at dksJ17_next_2 11 rfl rfl)
theorem dJ17_next_58 : decode cJ17_next 58 = .ok (.aload_n 0, 1) := dk_42 (dk_at dksJ17_next_2 12 rfl rfl)
theorem dJ17_next_59 : decode cJ17_next 59 = .ok (.iload_n 1, 1) := dk_27 (dk_at dksJ17_next_2 13 rfl rfl)
theorem dJ17_next_60 : decode cJ17_next 60 = .ok (.dup_x1, 1) := dk_90 (dk_at dksJ17_next_2 14 rfl rfl)
theorem dJ17_next_61 : decode cJ17_next 61 = .ok (.putfield 13, 3) := dk_181 0 13 (dk_at dksJ17_next_2 15 rfl rfl)
theorem dJ17_next_64 : decode cJ17_next 64 = .ok (.aaload, 1) := dk_50 (dk_at dksJ17_next_2 18 rfl rfl)
theorem dJ17_next_65 : decode cJ17_next 65 = .ok (.areturn, 1) := dk_176 (dk_at dksJ17_next_2 19 rfl rfl)
abbrev cJ17_checkForComodification : ByteArray := prog_51_method_6_code
def yJ17_checkForComodification : MethodName := ⟨RJ17, "checkForComodification", "()V"⟩
def dkwJ17_checkForComodification_0 : List UInt8 := [42, 180, 0, 1, 180, 0, 17, 42, 180, 0, 22, 159, 0, 11, 187, 0, 41, 89, 183, 0, 43, 191, 177]
abbrev dktJ17_checkForComodification_0 : List UInt8 := dkwJ17_checkForComodification_0 ++ []
theorem dksJ17_checkForComodification_0 : cJ17_checkForComodification.data.toList.drop 0 = dktJ17_checkForComodification_0 := by decide +kernel
theorem dJ17_checkForComodification_0 : decode cJ17_checkForComodification 0 = .ok (.aload_n 0, 1) := dk_42 (dk_at dksJ17_checkForComodification_0 0 rfl rfl)
theorem dJ17_checkForComodification_1 : decode cJ17_checkForComodification 1 = .ok (.getfield 1, 3) := dk_180 0 1 (dk_at dksJ17_checkForComodification_0 1 rfl rfl)
theorem dJ17_checkForComodification_4 : decode cJ17_checkForComodification 4 = .ok (.getfield 17, 3) := dk_180 0 17 (dk_at dksJ17_checkForComodification_0 4 rfl rfl)
theorem dJ17_checkForComodification_7 : decode cJ17_checkForComodification 7 = .ok (.aload_n 0, 1) := dk_42 (dk_at dksJ17_checkForComodification_0 7 rfl rfl)
theorem dJ17_checkForComodification_8 : decode cJ17_checkForComodification 8 = .ok (.getfield 22, 3) := dk_180 0 22 (dk_at dksJ17_checkForComodification_0 8 rfl rfl)
theorem dJ17_checkForComodification_11 : decode cJ17_checkForComodification 11 = .ok (.if_icmp .eq 11, 3) := dk_159 0 11 (dk_at dksJ17_checkForComodification_0 11 rfl rfl)
theorem dJ17_checkForComodification_14 : decode cJ17_checkForComodification 14 = .ok (.new 41, 3) := dk_187 0 41 (dk_at dksJ17_checkForComodification_0 14 rfl rfl)
theorem dJ17_checkForComodification_17 : decode cJ17_checkForComodification 17 = .ok (.dup, 1) := dk_89 (dk_at dksJ17_checkForComodification_0 17 rfl rfl)
theorem dJ17_checkForComodification_18 : decode cJ17_checkForComodification 18 = .ok (.invokespecial 43, 3) := dk_183 0 43 (dk_at dksJ17_checkForComodification_0 18 rfl rfl)
theorem dJ17_checkForComodification_21 : decode cJ17_checkForComodification 21 = .ok (.athrow, 1) := dk_191 (dk_at dksJ17_checkForComodification_0 21 rfl rfl)
theorem dJ17_checkForComodification_22 : decode cJ17_checkForComodification 22 = .ok (.return_, 1) := dk_177 (dk_at dksJ17_checkForComodification_0 22 rfl rfl)
theorem q77 : (Jvm.Cond.initialized "java/util/ArrayList$Itr") ∈ lw_all := lw_g (lw_at lw_m1 33 rfl) rfl
theorem q134 : (Jvm.Cond.fieldLink "java/util/ArrayList$Itr" (37 : Nat) "java/util/ArrayList" "elementData" "[Ljava/lang/Object;") ∈ lw_all := lw_g (lw_at lw_m1 90 rfl) rfl
theorem q135 : (Jvm.Cond.fieldLinkNest "java/util/ArrayList$Itr" (28 : Nat) "java/util/ArrayList" "size" "I" "java/util/ArrayList") ∈ lw_tbl := lw_at lw_m1 91 rfl
theorem q138 : (Jvm.Cond.fieldLink "java/util/ArrayList$Itr" (17 : Nat) "java/util/ArrayList" "modCount" "I") ∈ lw_all := lw_g (lw_at lw_m1 94 rfl) rfl
theorem q587 : (Jvm.Cond.selects "java/util/ArrayList$Itr" ({ cls := "java/lang/Object", name := "getClass", desc := "()Ljava/lang/Class;" } : Jvm.MethodName) ({ cls := "java/lang/Object", name := "getClass", desc := "()Ljava/lang/Class;" } : Jvm.MethodName)) ∈ lw_all := lw_g (lw_at lw_m3 63 rfl) rfl
theorem q1153 : (Jvm.Cond.instantiable "java/util/ArrayList$Itr" (4 : Nat)) ∈ lw_all := lw_g (lw_at lw_m5 149 rfl) rfl
theorem q1155 : (Jvm.Cond.instanceMethod ({ cls := "java/util/ArrayList$Itr", name := "<init>", desc := "(Ljava/util/ArrayList;)V" } : Jvm.MethodName)) ∈ lw_all := lw_g (lw_at lw_m5 151 rfl) rfl
theorem q1156 : (Jvm.Cond.code ({ cls := "java/util/ArrayList$Itr", name := "<init>", desc := "(Ljava/util/ArrayList;)V" } : Jvm.MethodName) prog_51_method_1_code (2 : Nat) (Option.none : Option Jvm.ClassFile.FieldType)) ∈ lw_all := lw_g (lw_at lw_m5 152 rfl) rfl
theorem q1157 : (Jvm.Cond.methodLink "java/util/ArrayList$Itr" (7 : Nat) ({ cls := "java/lang/Object", name := "<init>", desc := "()V" } : Jvm.MethodName)) ∈ lw_all := lw_g (lw_at lw_m5 153 rfl) rfl
theorem q1158 : (Jvm.Cond.fieldLink "java/util/ArrayList$Itr" (25 : Nat) "java/util/ArrayList$Itr" "cursor" "I") ∈ lw_all := lw_g (lw_at lw_m5 154 rfl) rfl
theorem q1159 : (Jvm.Cond.fieldLink "java/util/ArrayList$Itr" (13 : Nat) "java/util/ArrayList$Itr" "lastRet" "I") ∈ lw_all := lw_g (lw_at lw_m5 155 rfl) rfl
theorem q1160 : (Jvm.Cond.fieldLink "java/util/ArrayList$Itr" (22 : Nat) "java/util/ArrayList$Itr" "expectedModCount" "I") ∈ lw_all := lw_g (lw_at lw_m5 156 rfl) rfl
theorem q1161 : (Jvm.Cond.fieldLink "java/util/ArrayList$Itr" (1 : Nat) "java/util/ArrayList$Itr" "this$0" "Ljava/util/ArrayList;") ∈ lw_all := lw_g (lw_at lw_m5 157 rfl) rfl
theorem q1162 : (Jvm.Cond.lays "java/util/ArrayList$Itr" "java/util/ArrayList$Itr" "cursor" "I") ∈ lw_all := lw_g (lw_at lw_m5 158 rfl) rfl
theorem q1163 : (Jvm.Cond.soleField "java/util/ArrayList$Itr" "cursor") ∈ lw_all := lw_g (lw_at lw_m5 159 rfl) rfl
theorem q1164 : (Jvm.Cond.lays "java/util/ArrayList$Itr" "java/util/ArrayList$Itr" "lastRet" "I") ∈ lw_all := lw_g (lw_at lw_m5 160 rfl) rfl
theorem q1165 : (Jvm.Cond.soleField "java/util/ArrayList$Itr" "lastRet") ∈ lw_all := lw_g (lw_at lw_m5 161 rfl) rfl
theorem q1166 : (Jvm.Cond.lays "java/util/ArrayList$Itr" "java/util/ArrayList$Itr" "expectedModCount" "I") ∈ lw_all := lw_g (lw_at lw_m5 162 rfl) rfl
theorem q1167 : (Jvm.Cond.soleField "java/util/ArrayList$Itr" "expectedModCount") ∈ lw_all := lw_g (lw_at lw_m5 163 rfl) rfl
theorem q1168 : (Jvm.Cond.laysFinal "java/util/ArrayList$Itr" "java/util/ArrayList$Itr" "this$0" "Ljava/util/ArrayList;") ∈ lw_all := lw_g (lw_at lw_m5 164 rfl) rfl
theorem q1169 : (Jvm.Cond.soleField "java/util/ArrayList$Itr" "this$0") ∈ lw_all := lw_g (lw_at lw_m5 165 rfl) rfl
theorem q1170 : (Jvm.Cond.superclass "java/util/ArrayList$Itr" "java/lang/Object") ∈ lw_all := lw_g (lw_at lw_m5 166 rfl) rfl
theorem q1175 : (Jvm.Cond.castable "java/util/ArrayList$Itr" "java/util/Iterator") ∈ lw_tbl := lw_at lw_m5 171 rfl
theorem q1176 : (Jvm.Cond.selects "java/util/ArrayList$Itr" ({ cls := "java/util/Iterator", name := "hasNext", desc := "()Z" } : Jvm.MethodName) ({ cls := "java/util/ArrayList$Itr", name := "hasNext", desc := "()Z" } : Jvm.MethodName)) ∈ lw_all := lw_g (lw_at lw_m5 172 rfl) rfl
theorem q1177 : (Jvm.Cond.unhidden "java/util/ArrayList$Itr" "hasNext" "()Z") ∈ lw_tbl := lw_at lw_m5 173 rfl
theorem q1178 : (Jvm.Cond.instanceMethod ({ cls := "java/util/ArrayList$Itr", name := "hasNext", desc := "()Z" } : Jvm.MethodName)) ∈ lw_all := lw_g (lw_at lw_m5 174 rfl) rfl
theorem q1179 : (Jvm.Cond.publicMethod ({ cls := "java/util/ArrayList$Itr", name := "hasNext", desc := "()Z" } : Jvm.MethodName)) ∈ lw_tbl := lw_at lw_m5 175 rfl
theorem q1180 : (Jvm.Cond.code ({ cls := "java/util/ArrayList$Itr", name := "hasNext", desc := "()Z" } : Jvm.MethodName) prog_51_method_2_code (1 : Nat) (Option.some Jvm.ClassFile.FieldType.boolean)) ∈ lw_all := lw_g (lw_at lw_m5 176 rfl) rfl
theorem q1185 : (Jvm.Cond.selects "java/util/ArrayList$Itr" ({ cls := "java/util/Iterator", name := "next", desc := "()Ljava/lang/Object;" } : Jvm.MethodName) ({ cls := "java/util/ArrayList$Itr", name := "next", desc := "()Ljava/lang/Object;" } : Jvm.MethodName)) ∈ lw_all := lw_g (lw_at lw_m5 181 rfl) rfl
theorem q1186 : (Jvm.Cond.unhidden "java/util/ArrayList$Itr" "next" "()Ljava/lang/Object;") ∈ lw_tbl := lw_at lw_m5 182 rfl
theorem q1187 : (Jvm.Cond.instanceMethod ({ cls := "java/util/ArrayList$Itr", name := "next", desc := "()Ljava/lang/Object;" } : Jvm.MethodName)) ∈ lw_all := lw_g (lw_at lw_m5 183 rfl) rfl
theorem q1188 : (Jvm.Cond.publicMethod ({ cls := "java/util/ArrayList$Itr", name := "next", desc := "()Ljava/lang/Object;" } : Jvm.MethodName)) ∈ lw_tbl := lw_at lw_m5 184 rfl
theorem q1189 : (Jvm.Cond.code ({ cls := "java/util/ArrayList$Itr", name := "next", desc := "()Ljava/lang/Object;" } : Jvm.MethodName) prog_51_method_3_code (3 : Nat) (Option.some (Jvm.ClassFile.FieldType.object "java/lang/Object"))) ∈ lw_all := lw_g (lw_at lw_m5 185 rfl) rfl
theorem q1190 : (Jvm.Cond.methodLink "java/util/ArrayList$Itr" (31 : Nat) ({ cls := "java/util/ArrayList$Itr", name := "checkForComodification", desc := "()V" } : Jvm.MethodName)) ∈ lw_all := lw_g (lw_at lw_m5 186 rfl) rfl
theorem q1191 : (Jvm.Cond.instanceMethod ({ cls := "java/util/ArrayList$Itr", name := "checkForComodification", desc := "()V" } : Jvm.MethodName)) ∈ lw_all := lw_g (lw_at lw_m5 187 rfl) rfl
theorem q1192 : (Jvm.Cond.selects "java/util/ArrayList$Itr" ({ cls := "java/util/ArrayList$Itr", name := "checkForComodification", desc := "()V" } : Jvm.MethodName) ({ cls := "java/util/ArrayList$Itr", name := "checkForComodification", desc := "()V" } : Jvm.MethodName)) ∈ lw_all := lw_g (lw_at lw_m5 188 rfl) rfl
theorem q1193 : (Jvm.Cond.code ({ cls := "java/util/ArrayList$Itr", name := "checkForComodification", desc := "()V" } : Jvm.MethodName) prog_51_method_6_code (1 : Nat) (Option.none : Option Jvm.ClassFile.FieldType)) ∈ lw_all := lw_g (lw_at lw_m5 189 rfl) rfl
theorem q1194 : (Jvm.Cond.classLink "java/util/ArrayList$Itr" (34 : Nat) "java/util/NoSuchElementException") ∈ lw_all := lw_g (lw_at lw_m5 190 rfl) rfl
theorem q1203 : (Jvm.Cond.methodLink "java/util/ArrayList$Itr" (36 : Nat) ({ cls := "java/util/NoSuchElementException", name := "<init>", desc := "()V" } : Jvm.MethodName)) ∈ lw_all := lw_g (lw_at lw_m5 199 rfl) rfl
theorem q2654 : (Jvm.Cond.castable "java/util/ArrayList$Itr" "java/lang/Object") ∈ lw_tbl := lw_at lw_m11 210 rfl
theorem in_J17 : ∀ w ∈ wsJ170, w ∈ lw_all := lw_in wsJ170 [1162, 1164, 1166, 1168] (by decide +kernel) (by decide +kernel)
/-! java/util/NoSuchElementException -/
set_option maxRecDepth 100000
def RJ18 : String := "java/util/NoSuchElementException"
def TJ18 : u_T := fun k => match k with
  | 0 => ("java/lang/Throwable", "cause", "Ljava/lang/Throwable;", false)
  | 1 => ("java/lang/Throwable", "stackTrace", "[Ljava/lang/StackTraceElement;", false)
  | 2 => ("java/lang/Throwable", "suppressedExceptions", "Ljava/util/List;", false)
  | 3 => ("java/lang/Throwable", "detailMessage", "Ljava/lang/String;", false)
  | 4 => ("java/lang/Throwable", "backtrace", "Ljava/lang/Object;", false)
  | _ => ("java/lang/Throwable", "depth", "I", false)
def tyJ18 : Nat → FieldType := fun k => match k with
  | 0 => .object "java/lang/Throwable"
  | 1 => .array (.object "java/lang/StackTraceElement")
  | 2 => .object "java/util/List"
  | 3 => .object "java/lang/String"
  | 4 => .object "java/lang/Object"
  | _ => .int
abbrev wsJ180 : List Cond := u_ws RJ18 TJ18 6
theorem nmJ18 : ∀ a, a < 6 → ∀ b, b < 6 → a ≠ b → (TJ18 a).2.1 ≠ (TJ18 b).2.1 := by decide +kernel
theorem tyJ18_ok : ∀ k, k < 6 → parseFieldDescriptor (TJ18 k).2.2.1 = some (tyJ18 k) := by decide +kernel
abbrev cJ18_init : ByteArray := prog_62_method_1_code
def yJ18_init : MethodName := ⟨RJ18, "<init>", "()V"⟩
theorem dJ18_init_0 : decode cJ18_init 0 = .ok (.aload_n 0, 1) := by decide +kernel
theorem dJ18_init_1 : decode cJ18_init 1 = .ok (.invokespecial 1, 3) := by decide +kernel
theorem dJ18_init_4 : decode cJ18_init 4 = .ok (.return_, 1) := by decide +kernel
theorem q78 : (Jvm.Cond.initialized "java/util/NoSuchElementException") ∈ lw_all := lw_g (lw_at lw_m1 34 rfl) rfl
theorem q591 : (Jvm.Cond.selects "java/util/NoSuchElementException" ({ cls := "java/lang/Object", name := "getClass", desc := "()Ljava/lang/Class;" } : Jvm.MethodName) ({ cls := "java/lang/Object", name := "getClass", desc := "()Ljava/lang/Class;" } : Jvm.MethodName)) ∈ lw_all := lw_g (lw_at lw_m3 67 rfl) rfl
theorem q815 : (Jvm.Cond.selects "java/util/NoSuchElementException" ({ cls := "java/lang/Throwable", name := "fillInStackTrace", desc := "()Ljava/lang/Throwable;" } : Jvm.MethodName) ({ cls := "java/lang/Throwable", name := "fillInStackTrace", desc := "()Ljava/lang/Throwable;" } : Jvm.MethodName)) ∈ lw_all := lw_g (lw_at lw_m4 51 rfl) rfl
theorem q1195 : (Jvm.Cond.instantiable "java/util/NoSuchElementException" (6 : Nat)) ∈ lw_all := lw_g (lw_at lw_m5 191 rfl) rfl
theorem q1196 : (Jvm.Cond.castable "java/util/NoSuchElementException" "java/util/NoSuchElementException") ∈ lw_tbl := lw_at lw_m5 192 rfl
theorem q1197 : (Jvm.Cond.selects "java/util/NoSuchElementException" ({ cls := "java/lang/Throwable", name := "fillInStackTrace", desc := "(I)Ljava/lang/Throwable;" } : Jvm.MethodName) ({ cls := "java/lang/Throwable", name := "fillInStackTrace", desc := "(I)Ljava/lang/Throwable;" } : Jvm.MethodName)) ∈ lw_all := lw_g (lw_at lw_m5 193 rfl) rfl
theorem q1198 : (Jvm.Cond.lays "java/util/NoSuchElementException" "java/lang/Throwable" "cause" "Ljava/lang/Throwable;") ∈ lw_all := lw_g (lw_at lw_m5 194 rfl) rfl
theorem q1199 : (Jvm.Cond.lays "java/util/NoSuchElementException" "java/lang/Throwable" "stackTrace" "[Ljava/lang/StackTraceElement;") ∈ lw_all := lw_g (lw_at lw_m5 195 rfl) rfl
theorem q1200 : (Jvm.Cond.lays "java/util/NoSuchElementException" "java/lang/Throwable" "suppressedExceptions" "Ljava/util/List;") ∈ lw_all := lw_g (lw_at lw_m5 196 rfl) rfl
theorem q1201 : (Jvm.Cond.lays "java/util/NoSuchElementException" "java/lang/Throwable" "detailMessage" "Ljava/lang/String;") ∈ lw_all := lw_g (lw_at lw_m5 197 rfl) rfl
theorem q1202 : (Jvm.Cond.lays "java/util/NoSuchElementException" "java/lang/Throwable" "backtrace" "Ljava/lang/Object;") ∈ lw_all := lw_g (lw_at lw_m5 198 rfl) rfl
theorem q1204 : (Jvm.Cond.instanceMethod ({ cls := "java/util/NoSuchElementException", name := "<init>", desc := "()V" } : Jvm.MethodName)) ∈ lw_all := lw_g (lw_at lw_m5 200 rfl) rfl
theorem q1205 : (Jvm.Cond.code ({ cls := "java/util/NoSuchElementException", name := "<init>", desc := "()V" } : Jvm.MethodName) prog_62_method_1_code (1 : Nat) (Option.none : Option Jvm.ClassFile.FieldType)) ∈ lw_all := lw_g (lw_at lw_m5 201 rfl) rfl
theorem q1206 : (Jvm.Cond.methodLink "java/util/NoSuchElementException" (1 : Nat) ({ cls := "java/lang/RuntimeException", name := "<init>", desc := "()V" } : Jvm.MethodName)) ∈ lw_all := lw_g (lw_at lw_m5 202 rfl) rfl
theorem q1207 : (Jvm.Cond.lays "java/util/NoSuchElementException" "java/lang/Throwable" "depth" "I") ∈ lw_all := lw_g (lw_at lw_m5 203 rfl) rfl
theorem q1208 : (Jvm.Cond.superclass "java/util/NoSuchElementException" "java/lang/RuntimeException") ∈ lw_all := lw_g (lw_at lw_m5 204 rfl) rfl
theorem q2655 : (Jvm.Cond.castable "java/util/NoSuchElementException" "java/lang/Object") ∈ lw_tbl := lw_at lw_m11 211 rfl
theorem in_J18 : ∀ w ∈ wsJ180, w ∈ lw_all := lw_in wsJ180 [1198, 1199, 1200, 1201, 1202, 1207] (by decide +kernel) (by decide +kernel)
/-! java/lang/IllegalArgumentException -/
set_option maxRecDepth 100000
def RJ19 : String := "java/lang/IllegalArgumentException"
def TJ19 : u_T := fun k => match k with
  | 0 => ("java/lang/Throwable", "cause", "Ljava/lang/Throwable;", false)
  | 1 => ("java/lang/Throwable", "stackTrace", "[Ljava/lang/StackTraceElement;", false)
  | 2 => ("java/lang/Throwable", "suppressedExceptions", "Ljava/util/List;", false)
  | 3 => ("java/lang/Throwable", "detailMessage", "Ljava/lang/String;", false)
  | 4 => ("java/lang/Throwable", "backtrace", "Ljava/lang/Object;", false)
  | _ => ("java/lang/Throwable", "depth", "I", false)
def tyJ19 : Nat → FieldType := fun k => match k with
  | 0 => .object "java/lang/Throwable"
  | 1 => .array (.object "java/lang/StackTraceElement")
  | 2 => .object "java/util/List"
  | 3 => .object "java/lang/String"
  | 4 => .object "java/lang/Object"
  | _ => .int
abbrev wsJ190 : List Cond := u_ws RJ19 TJ19 6
theorem nmJ19 : ∀ a, a < 6 → ∀ b, b < 6 → a ≠ b → (TJ19 a).2.1 ≠ (TJ19 b).2.1 := by decide +kernel
theorem tyJ19_ok : ∀ k, k < 6 → parseFieldDescriptor (TJ19 k).2.2.1 = some (tyJ19 k) := by decide +kernel
abbrev cJ19_init : ByteArray := prog_32_method_1_code
def yJ19_init : MethodName := ⟨RJ19, "<init>", "()V"⟩
theorem dJ19_init_0 : decode cJ19_init 0 = .ok (.aload_n 0, 1) := by decide +kernel
theorem dJ19_init_1 : decode cJ19_init 1 = .ok (.invokespecial 1, 3) := by decide +kernel
theorem dJ19_init_4 : decode cJ19_init 4 = .ok (.return_, 1) := by decide +kernel
theorem q85 : (Jvm.Cond.initialized "java/lang/IllegalArgumentException") ∈ lw_all := lw_g (lw_at lw_m1 41 rfl) rfl
theorem q479 : (Jvm.Cond.selects "java/lang/IllegalArgumentException" ({ cls := "java/lang/Object", name := "hashCode", desc := "()I" } : Jvm.MethodName) ({ cls := "java/lang/Object", name := "hashCode", desc := "()I" } : Jvm.MethodName)) ∈ lw_all := lw_g (lw_at lw_m2 195 rfl) rfl
theorem q581 : (Jvm.Cond.selects "java/lang/IllegalArgumentException" ({ cls := "java/lang/Object", name := "getClass", desc := "()Ljava/lang/Class;" } : Jvm.MethodName) ({ cls := "java/lang/Object", name := "getClass", desc := "()Ljava/lang/Class;" } : Jvm.MethodName)) ∈ lw_all := lw_g (lw_at lw_m3 57 rfl) rfl
theorem q663 : (Jvm.Cond.selects "java/lang/IllegalArgumentException" ({ cls := "java/lang/Object", name := "equals", desc := "(Ljava/lang/Object;)Z" } : Jvm.MethodName) ({ cls := "java/lang/Object", name := "equals", desc := "(Ljava/lang/Object;)Z" } : Jvm.MethodName)) ∈ lw_all := lw_g (lw_at lw_m3 139 rfl) rfl
theorem q811 : (Jvm.Cond.selects "java/lang/IllegalArgumentException" ({ cls := "java/lang/Throwable", name := "fillInStackTrace", desc := "()Ljava/lang/Throwable;" } : Jvm.MethodName) ({ cls := "java/lang/Throwable", name := "fillInStackTrace", desc := "()Ljava/lang/Throwable;" } : Jvm.MethodName)) ∈ lw_all := lw_g (lw_at lw_m4 47 rfl) rfl
theorem q1618 : (Jvm.Cond.instantiable "java/lang/IllegalArgumentException" (6 : Nat)) ∈ lw_all := lw_g (lw_at lw_m7 134 rfl) rfl
theorem q1619 : (Jvm.Cond.castable "java/lang/IllegalArgumentException" "java/lang/IllegalArgumentException") ∈ lw_tbl := lw_at lw_m7 135 rfl
theorem q1620 : (Jvm.Cond.selects "java/lang/IllegalArgumentException" ({ cls := "java/lang/Throwable", name := "fillInStackTrace", desc := "(I)Ljava/lang/Throwable;" } : Jvm.MethodName) ({ cls := "java/lang/Throwable", name := "fillInStackTrace", desc := "(I)Ljava/lang/Throwable;" } : Jvm.MethodName)) ∈ lw_all := lw_g (lw_at lw_m7 136 rfl) rfl
theorem q1621 : (Jvm.Cond.lays "java/lang/IllegalArgumentException" "java/lang/Throwable" "cause" "Ljava/lang/Throwable;") ∈ lw_all := lw_g (lw_at lw_m7 137 rfl) rfl
theorem q1622 : (Jvm.Cond.lays "java/lang/IllegalArgumentException" "java/lang/Throwable" "stackTrace" "[Ljava/lang/StackTraceElement;") ∈ lw_all := lw_g (lw_at lw_m7 138 rfl) rfl
theorem q1623 : (Jvm.Cond.lays "java/lang/IllegalArgumentException" "java/lang/Throwable" "suppressedExceptions" "Ljava/util/List;") ∈ lw_all := lw_g (lw_at lw_m7 139 rfl) rfl
theorem q1624 : (Jvm.Cond.lays "java/lang/IllegalArgumentException" "java/lang/Throwable" "detailMessage" "Ljava/lang/String;") ∈ lw_all := lw_g (lw_at lw_m7 140 rfl) rfl
theorem q1625 : (Jvm.Cond.lays "java/lang/IllegalArgumentException" "java/lang/Throwable" "backtrace" "Ljava/lang/Object;") ∈ lw_all := lw_g (lw_at lw_m7 141 rfl) rfl
theorem q1627 : (Jvm.Cond.instanceMethod ({ cls := "java/lang/IllegalArgumentException", name := "<init>", desc := "()V" } : Jvm.MethodName)) ∈ lw_all := lw_g (lw_at lw_m7 143 rfl) rfl
theorem q1628 : (Jvm.Cond.code ({ cls := "java/lang/IllegalArgumentException", name := "<init>", desc := "()V" } : Jvm.MethodName) prog_32_method_1_code (1 : Nat) (Option.none : Option Jvm.ClassFile.FieldType)) ∈ lw_all := lw_g (lw_at lw_m7 144 rfl) rfl
theorem q1629 : (Jvm.Cond.methodLink "java/lang/IllegalArgumentException" (1 : Nat) ({ cls := "java/lang/RuntimeException", name := "<init>", desc := "()V" } : Jvm.MethodName)) ∈ lw_all := lw_g (lw_at lw_m7 145 rfl) rfl
theorem q1630 : (Jvm.Cond.lays "java/lang/IllegalArgumentException" "java/lang/Throwable" "depth" "I") ∈ lw_all := lw_g (lw_at lw_m7 146 rfl) rfl
theorem q1631 : (Jvm.Cond.superclass "java/lang/IllegalArgumentException" "java/lang/RuntimeException") ∈ lw_all := lw_g (lw_at lw_m7 147 rfl) rfl
theorem q2662 : (Jvm.Cond.castable "java/lang/IllegalArgumentException" "java/lang/Object") ∈ lw_tbl := lw_at lw_m11 218 rfl
theorem in_J19 : ∀ w ∈ wsJ190, w ∈ lw_all := lw_in wsJ190 [1621, 1622, 1623, 1624, 1625, 1630] (by decide +kernel) (by decide +kernel)
/-! java/lang/UnsupportedOperationException -/
set_option maxRecDepth 100000
def RJ20 : String := "java/lang/UnsupportedOperationException"
def TJ20 : u_T := fun k => match k with
  | 0 => ("java/lang/Throwable", "cause", "Ljava/lang/Throwable;", false)
  | 1 => ("java/lang/Throwable", "stackTrace", "[Ljava/lang/StackTraceElement;", false)
  | 2 => ("java/lang/Throwable", "suppressedExceptions", "Ljava/util/List;", false)
  | 3 => ("java/lang/Throwable", "detailMessage", "Ljava/lang/String;", false)
  | 4 => ("java/lang/Throwable", "backtrace", "Ljava/lang/Object;", false)
  | _ => ("java/lang/Throwable", "depth", "I", false)
def tyJ20 : Nat → FieldType := fun k => match k with
  | 0 => .object "java/lang/Throwable"
  | 1 => .array (.object "java/lang/StackTraceElement")
  | 2 => .object "java/util/List"
  | 3 => .object "java/lang/String"
  | 4 => .object "java/lang/Object"
  | _ => .int
abbrev wsJ200 : List Cond := u_ws RJ20 TJ20 6
theorem nmJ20 : ∀ a, a < 6 → ∀ b, b < 6 → a ≠ b → (TJ20 a).2.1 ≠ (TJ20 b).2.1 := by decide +kernel
theorem tyJ20_ok : ∀ k, k < 6 → parseFieldDescriptor (TJ20 k).2.2.1 = some (tyJ20 k) := by decide +kernel
abbrev cJ20_init : ByteArray := prog_44_method_1_code
def yJ20_init : MethodName := ⟨RJ20, "<init>", "()V"⟩
theorem dJ20_init_0 : decode cJ20_init 0 = .ok (.aload_n 0, 1) := by decide +kernel
theorem dJ20_init_1 : decode cJ20_init 1 = .ok (.invokespecial 1, 3) := by decide +kernel
theorem dJ20_init_4 : decode cJ20_init 4 = .ok (.return_, 1) := by decide +kernel
theorem q87 : (Jvm.Cond.initialized "java/lang/UnsupportedOperationException") ∈ lw_all := lw_g (lw_at lw_m1 43 rfl) rfl
theorem q488 : (Jvm.Cond.selects "java/lang/UnsupportedOperationException" ({ cls := "java/lang/Object", name := "hashCode", desc := "()I" } : Jvm.MethodName) ({ cls := "java/lang/Object", name := "hashCode", desc := "()I" } : Jvm.MethodName)) ∈ lw_all := lw_g (lw_at lw_m2 204 rfl) rfl
theorem q585 : (Jvm.Cond.selects "java/lang/UnsupportedOperationException" ({ cls := "java/lang/Object", name := "getClass", desc := "()Ljava/lang/Class;" } : Jvm.MethodName) ({ cls := "java/lang/Object", name := "getClass", desc := "()Ljava/lang/Class;" } : Jvm.MethodName)) ∈ lw_all := lw_g (lw_at lw_m3 61 rfl) rfl
theorem q673 : (Jvm.Cond.selects "java/lang/UnsupportedOperationException" ({ cls := "java/lang/Object", name := "equals", desc := "(Ljava/lang/Object;)Z" } : Jvm.MethodName) ({ cls := "java/lang/Object", name := "equals", desc := "(Ljava/lang/Object;)Z" } : Jvm.MethodName)) ∈ lw_all := lw_g (lw_at lw_m3 149 rfl) rfl
theorem q814 : (Jvm.Cond.selects "java/lang/UnsupportedOperationException" ({ cls := "java/lang/Throwable", name := "fillInStackTrace", desc := "()Ljava/lang/Throwable;" } : Jvm.MethodName) ({ cls := "java/lang/Throwable", name := "fillInStackTrace", desc := "()Ljava/lang/Throwable;" } : Jvm.MethodName)) ∈ lw_all := lw_g (lw_at lw_m4 50 rfl) rfl
theorem q1776 : (Jvm.Cond.instantiable "java/lang/UnsupportedOperationException" (6 : Nat)) ∈ lw_all := lw_g (lw_at lw_m8 52 rfl) rfl
theorem q1777 : (Jvm.Cond.castable "java/lang/UnsupportedOperationException" "java/lang/UnsupportedOperationException") ∈ lw_tbl := lw_at lw_m8 53 rfl
theorem q1778 : (Jvm.Cond.selects "java/lang/UnsupportedOperationException" ({ cls := "java/lang/Throwable", name := "fillInStackTrace", desc := "(I)Ljava/lang/Throwable;" } : Jvm.MethodName) ({ cls := "java/lang/Throwable", name := "fillInStackTrace", desc := "(I)Ljava/lang/Throwable;" } : Jvm.MethodName)) ∈ lw_all := lw_g (lw_at lw_m8 54 rfl) rfl
theorem q1779 : (Jvm.Cond.lays "java/lang/UnsupportedOperationException" "java/lang/Throwable" "cause" "Ljava/lang/Throwable;") ∈ lw_all := lw_g (lw_at lw_m8 55 rfl) rfl
theorem q1780 : (Jvm.Cond.lays "java/lang/UnsupportedOperationException" "java/lang/Throwable" "stackTrace" "[Ljava/lang/StackTraceElement;") ∈ lw_all := lw_g (lw_at lw_m8 56 rfl) rfl
theorem q1781 : (Jvm.Cond.lays "java/lang/UnsupportedOperationException" "java/lang/Throwable" "suppressedExceptions" "Ljava/util/List;") ∈ lw_all := lw_g (lw_at lw_m8 57 rfl) rfl
theorem q1782 : (Jvm.Cond.lays "java/lang/UnsupportedOperationException" "java/lang/Throwable" "detailMessage" "Ljava/lang/String;") ∈ lw_all := lw_g (lw_at lw_m8 58 rfl) rfl
theorem q1783 : (Jvm.Cond.lays "java/lang/UnsupportedOperationException" "java/lang/Throwable" "backtrace" "Ljava/lang/Object;") ∈ lw_all := lw_g (lw_at lw_m8 59 rfl) rfl
theorem q1785 : (Jvm.Cond.instanceMethod ({ cls := "java/lang/UnsupportedOperationException", name := "<init>", desc := "()V" } : Jvm.MethodName)) ∈ lw_all := lw_g (lw_at lw_m8 61 rfl) rfl
theorem q1786 : (Jvm.Cond.code ({ cls := "java/lang/UnsupportedOperationException", name := "<init>", desc := "()V" } : Jvm.MethodName) prog_44_method_1_code (1 : Nat) (Option.none : Option Jvm.ClassFile.FieldType)) ∈ lw_all := lw_g (lw_at lw_m8 62 rfl) rfl
theorem q1787 : (Jvm.Cond.methodLink "java/lang/UnsupportedOperationException" (1 : Nat) ({ cls := "java/lang/RuntimeException", name := "<init>", desc := "()V" } : Jvm.MethodName)) ∈ lw_all := lw_g (lw_at lw_m8 63 rfl) rfl
theorem q1788 : (Jvm.Cond.lays "java/lang/UnsupportedOperationException" "java/lang/Throwable" "depth" "I") ∈ lw_all := lw_g (lw_at lw_m8 64 rfl) rfl
theorem q1789 : (Jvm.Cond.superclass "java/lang/UnsupportedOperationException" "java/lang/RuntimeException") ∈ lw_all := lw_g (lw_at lw_m8 65 rfl) rfl
theorem q2664 : (Jvm.Cond.castable "java/lang/UnsupportedOperationException" "java/lang/Object") ∈ lw_tbl := lw_at lw_m11 220 rfl
theorem in_J20 : ∀ w ∈ wsJ200, w ∈ lw_all := lw_in wsJ200 [1779, 1780, 1781, 1782, 1783, 1788] (by decide +kernel) (by decide +kernel)
/-! java/lang/ArithmeticException -/
set_option maxRecDepth 100000
def RJ21 : String := "java/lang/ArithmeticException"
def TJ21 : u_T := fun k => match k with
  | 0 => ("java/lang/Throwable", "backtrace", "Ljava/lang/Object;", false)
  | 1 => ("java/lang/Throwable", "detailMessage", "Ljava/lang/String;", false)
  | 2 => ("java/lang/Throwable", "cause", "Ljava/lang/Throwable;", false)
  | 3 => ("java/lang/Throwable", "stackTrace", "[Ljava/lang/StackTraceElement;", false)
  | 4 => ("java/lang/Throwable", "depth", "I", false)
  | _ => ("java/lang/Throwable", "suppressedExceptions", "Ljava/util/List;", false)
def tyJ21 : Nat → FieldType := fun k => match k with
  | 0 => .object "java/lang/Object"
  | 1 => .object "java/lang/String"
  | 2 => .object "java/lang/Throwable"
  | 3 => .array (.object "java/lang/StackTraceElement")
  | 4 => .int
  | _ => .object "java/util/List"
abbrev wsJ210 : List Cond := u_ws RJ21 TJ21 6
theorem nmJ21 : ∀ a, a < 6 → ∀ b, b < 6 → a ≠ b → (TJ21 a).2.1 ≠ (TJ21 b).2.1 := by decide +kernel
theorem tyJ21_ok : ∀ k, k < 6 → parseFieldDescriptor (TJ21 k).2.2.1 = some (tyJ21 k) := by decide +kernel
abbrev cJ21_init : ByteArray := prog_27_method_2_code
def yJ21_init : MethodName := ⟨RJ21, "<init>", "(Ljava/lang/String;)V"⟩
def dkwJ21_init_0 : List UInt8 := [42, 43, 183, 0, 7, 177]
abbrev dktJ21_init_0 : List UInt8 := dkwJ21_init_0 ++ []
theorem dksJ21_init_0 : cJ21_init.data.toList.drop 0 = dktJ21_init_0 := by decide +kernel
theorem dJ21_init_0 : decode cJ21_init 0 = .ok (.aload_n 0, 1) := dk_42 (dk_at dksJ21_init_0 0 rfl rfl)
theorem dJ21_init_1 : decode cJ21_init 1 = .ok (.aload_n 1, 1) := dk_43 (dk_at dksJ21_init_0 1 rfl rfl)
theorem dJ21_init_2 : decode cJ21_init 2 = .ok (.invokespecial 7, 3) := dk_183 0 7 (dk_at dksJ21_init_0 2 rfl rfl)
theorem dJ21_init_5 : decode cJ21_init 5 = .ok (.return_, 1) := dk_177 (dk_at dksJ21_init_0 5 rfl rfl)
abbrev cJ21_init_2 : ByteArray := prog_27_method_1_code
def yJ21_init_2 : MethodName := ⟨RJ21, "<init>", "()V"⟩
theorem dJ21_init_2_0 : decode cJ21_init_2 0 = .ok (.aload_n 0, 1) := by decide +kernel
theorem dJ21_init_2_1 : decode cJ21_init_2 1 = .ok (.invokespecial 1, 3) := by decide +kernel
theorem dJ21_init_2_4 : decode cJ21_init_2 4 = .ok (.return_, 1) := by decide +kernel
theorem q90 : (Jvm.Cond.initialized "java/lang/ArithmeticException") ∈ lw_all := lw_g (lw_at lw_m1 46 rfl) rfl
theorem q477 : (Jvm.Cond.selects "java/lang/ArithmeticException" ({ cls := "java/lang/Object", name := "hashCode", desc := "()I" } : Jvm.MethodName) ({ cls := "java/lang/Object", name := "hashCode", desc := "()I" } : Jvm.MethodName)) ∈ lw_all := lw_g (lw_at lw_m2 193 rfl) rfl
theorem q579 : (Jvm.Cond.selects "java/lang/ArithmeticException" ({ cls := "java/lang/Object", name := "getClass", desc := "()Ljava/lang/Class;" } : Jvm.MethodName) ({ cls := "java/lang/Object", name := "getClass", desc := "()Ljava/lang/Class;" } : Jvm.MethodName)) ∈ lw_all := lw_g (lw_at lw_m3 55 rfl) rfl
theorem q661 : (Jvm.Cond.selects "java/lang/ArithmeticException" ({ cls := "java/lang/Object", name := "equals", desc := "(Ljava/lang/Object;)Z" } : Jvm.MethodName) ({ cls := "java/lang/Object", name := "equals", desc := "(Ljava/lang/Object;)Z" } : Jvm.MethodName)) ∈ lw_all := lw_g (lw_at lw_m3 137 rfl) rfl
theorem q809 : (Jvm.Cond.selects "java/lang/ArithmeticException" ({ cls := "java/lang/Throwable", name := "fillInStackTrace", desc := "()Ljava/lang/Throwable;" } : Jvm.MethodName) ({ cls := "java/lang/Throwable", name := "fillInStackTrace", desc := "()Ljava/lang/Throwable;" } : Jvm.MethodName)) ∈ lw_all := lw_g (lw_at lw_m4 45 rfl) rfl
theorem q1908 : (Jvm.Cond.instantiable "java/lang/ArithmeticException" (6 : Nat)) ∈ lw_all := lw_g (lw_at lw_m8 184 rfl) rfl
theorem q1909 : (Jvm.Cond.instanceMethod ({ cls := "java/lang/ArithmeticException", name := "<init>", desc := "(Ljava/lang/String;)V" } : Jvm.MethodName)) ∈ lw_all := lw_g (lw_at lw_m8 185 rfl) rfl
theorem q1910 : (Jvm.Cond.code ({ cls := "java/lang/ArithmeticException", name := "<init>", desc := "(Ljava/lang/String;)V" } : Jvm.MethodName) prog_27_method_2_code (2 : Nat) (Option.none : Option Jvm.ClassFile.FieldType)) ∈ lw_all := lw_g (lw_at lw_m8 186 rfl) rfl
theorem q1911 : (Jvm.Cond.methodLink "java/lang/ArithmeticException" (7 : Nat) ({ cls := "java/lang/RuntimeException", name := "<init>", desc := "(Ljava/lang/String;)V" } : Jvm.MethodName)) ∈ lw_all := lw_g (lw_at lw_m8 187 rfl) rfl
theorem q1912 : (Jvm.Cond.lays "java/lang/ArithmeticException" "java/lang/Throwable" "backtrace" "Ljava/lang/Object;") ∈ lw_all := lw_g (lw_at lw_m8 188 rfl) rfl
theorem q1913 : (Jvm.Cond.lays "java/lang/ArithmeticException" "java/lang/Throwable" "detailMessage" "Ljava/lang/String;") ∈ lw_all := lw_g (lw_at lw_m8 189 rfl) rfl
theorem q1914 : (Jvm.Cond.lays "java/lang/ArithmeticException" "java/lang/Throwable" "cause" "Ljava/lang/Throwable;") ∈ lw_all := lw_g (lw_at lw_m8 190 rfl) rfl
theorem q1915 : (Jvm.Cond.lays "java/lang/ArithmeticException" "java/lang/Throwable" "stackTrace" "[Ljava/lang/StackTraceElement;") ∈ lw_all := lw_g (lw_at lw_m8 191 rfl) rfl
theorem q1916 : (Jvm.Cond.lays "java/lang/ArithmeticException" "java/lang/Throwable" "depth" "I") ∈ lw_all := lw_g (lw_at lw_m8 192 rfl) rfl
theorem q1917 : (Jvm.Cond.lays "java/lang/ArithmeticException" "java/lang/Throwable" "suppressedExceptions" "Ljava/util/List;") ∈ lw_all := lw_g (lw_at lw_m8 193 rfl) rfl
theorem q1918 : (Jvm.Cond.superclass "java/lang/ArithmeticException" "java/lang/RuntimeException") ∈ lw_all := lw_g (lw_at lw_m8 194 rfl) rfl
theorem q1919 : (Jvm.Cond.castable "java/lang/ArithmeticException" "java/lang/ArithmeticException") ∈ lw_tbl := lw_at lw_m8 195 rfl
theorem q1920 : (Jvm.Cond.selects "java/lang/ArithmeticException" ({ cls := "java/lang/Throwable", name := "fillInStackTrace", desc := "(I)Ljava/lang/Throwable;" } : Jvm.MethodName) ({ cls := "java/lang/Throwable", name := "fillInStackTrace", desc := "(I)Ljava/lang/Throwable;" } : Jvm.MethodName)) ∈ lw_all := lw_g (lw_at lw_m8 196 rfl) rfl
theorem q1927 : (Jvm.Cond.instanceMethod ({ cls := "java/lang/ArithmeticException", name := "<init>", desc := "()V" } : Jvm.MethodName)) ∈ lw_all := lw_g (lw_at lw_m8 203 rfl) rfl
theorem q1928 : (Jvm.Cond.code ({ cls := "java/lang/ArithmeticException", name := "<init>", desc := "()V" } : Jvm.MethodName) prog_27_method_1_code (1 : Nat) (Option.none : Option Jvm.ClassFile.FieldType)) ∈ lw_all := lw_g (lw_at lw_m8 204 rfl) rfl
theorem q1929 : (Jvm.Cond.methodLink "java/lang/ArithmeticException" (1 : Nat) ({ cls := "java/lang/RuntimeException", name := "<init>", desc := "()V" } : Jvm.MethodName)) ∈ lw_all := lw_g (lw_at lw_m8 205 rfl) rfl
theorem q2667 : (Jvm.Cond.castable "java/lang/ArithmeticException" "java/lang/Object") ∈ lw_tbl := lw_at lw_m11 223 rfl
theorem in_J21 : ∀ w ∈ wsJ210, w ∈ lw_all := lw_in wsJ210 [1912, 1913, 1914, 1915, 1916, 1917] (by decide +kernel) (by decide +kernel)
/-! java/util/AbstractMap -/
set_option maxRecDepth 100000
def RJ22 : String := "java/util/AbstractMap"
abbrev cJ22_init : ByteArray := prog_49_method_1_code
def yJ22_init : MethodName := ⟨RJ22, "<init>", "()V"⟩
theorem dJ22_init_0 : decode cJ22_init 0 = .ok (.aload_n 0, 1) := by decide +kernel
theorem dJ22_init_1 : decode cJ22_init 1 = .ok (.invokespecial 1, 3) := by decide +kernel
theorem dJ22_init_4 : decode cJ22_init 4 = .ok (.return_, 1) := by decide +kernel
theorem q91 : (Jvm.Cond.initialized "java/util/AbstractMap") ∈ lw_all := lw_g (lw_at lw_m1 47 rfl) rfl
theorem q384 : (Jvm.Cond.instanceMethod ({ cls := "java/util/AbstractMap", name := "<init>", desc := "()V" } : Jvm.MethodName)) ∈ lw_all := lw_g (lw_at lw_m2 100 rfl) rfl
theorem q385 : (Jvm.Cond.code ({ cls := "java/util/AbstractMap", name := "<init>", desc := "()V" } : Jvm.MethodName) prog_49_method_1_code (1 : Nat) (Option.none : Option Jvm.ClassFile.FieldType)) ∈ lw_all := lw_g (lw_at lw_m2 101 rfl) rfl
theorem q386 : (Jvm.Cond.methodLink "java/util/AbstractMap" (1 : Nat) ({ cls := "java/lang/Object", name := "<init>", desc := "()V" } : Jvm.MethodName)) ∈ lw_all := lw_g (lw_at lw_m2 102 rfl) rfl
theorem q406 : (Jvm.Cond.soleField "java/util/AbstractMap" "keySet") ∈ lw_all := lw_g (lw_at lw_m2 122 rfl) rfl
theorem q408 : (Jvm.Cond.soleField "java/util/AbstractMap" "values") ∈ lw_all := lw_g (lw_at lw_m2 124 rfl) rfl
/-! java/util/HashMap -/
set_option maxRecDepth 100000
def RJ23 : String := "java/util/HashMap"
def TJ23 : u_T := fun k => match k with
  | 0 => ("java/util/AbstractMap", "keySet", "Ljava/util/Set;", false)
  | 1 => ("java/util/AbstractMap", "values", "Ljava/util/Collection;", false)
  | 2 => ("java/util/HashMap", "table", "[Ljava/util/HashMap$Node;", false)
  | 3 => ("java/util/HashMap", "entrySet", "Ljava/util/Set;", false)
  | 4 => ("java/util/HashMap", "size", "I", false)
  | 5 => ("java/util/HashMap", "modCount", "I", false)
  | 6 => ("java/util/HashMap", "threshold", "I", false)
  | _ => ("java/util/HashMap", "loadFactor", "F", true)
def tyJ23 : Nat → FieldType := fun k => match k with
  | 0 => .object "java/util/Set"
  | 1 => .object "java/util/Collection"
  | 2 => .array (.object "java/util/HashMap$Node")
  | 3 => .object "java/util/Set"
  | 4 => .int
  | 5 => .int
  | 6 => .int
  | _ => .float
abbrev wsJ230 : List Cond := u_ws RJ23 TJ23 8
theorem nmJ23 : ∀ a, a < 8 → ∀ b, b < 8 → a ≠ b → (TJ23 a).2.1 ≠ (TJ23 b).2.1 := by decide +kernel
theorem tyJ23_ok : ∀ k, k < 8 → parseFieldDescriptor (TJ23 k).2.2.1 = some (tyJ23 k) := by decide +kernel
abbrev cJ23_init : ByteArray := prog_54_method_7_code
def yJ23_init : MethodName := ⟨RJ23, "<init>", "()V"⟩
def dkwJ23_init_0 : List UInt8 := [42, 183, 0, 43, 42, 18, 92, 181, 0, 81, 177]
abbrev dktJ23_init_0 : List UInt8 := dkwJ23_init_0 ++ []
theorem dksJ23_init_0 : cJ23_init.data.toList.drop 0 = dktJ23_init_0 := by decide +kernel
theorem dJ23_init_0 : decode cJ23_init 0 = .ok (.aload_n 0, 1) := dk_42 (dk_at dksJ23_init_0 0 rfl rfl)
theorem dJ23_init_1 : decode cJ23_init 1 = .ok (.invokespecial 43, 3) := dk_183 0 43 (dk_at dksJ23_init_0 1 rfl rfl)
theorem dJ23_init_4 : decode cJ23_init 4 = .ok (.aload_n 0, 1) := dk_42 (dk_at dksJ23_init_0 4 rfl rfl)
theorem dJ23_init_5 : decode cJ23_init 5 = .ok (.ldc 92, 2) := dk_18 92 (dk_at dksJ23_init_0 5 rfl rfl)
theorem dJ23_init_7 : decode cJ23_init 7 = .ok (.putfield 81, 3) := dk_181 0 81 (dk_at dksJ23_init_0 7 rfl rfl)
theorem dJ23_init_10 : decode cJ23_init 10 = .ok (.return_, 1) := dk_177 (dk_at dksJ23_init_0 10 rfl rfl)
abbrev cJ23_putIfAbsent : ByteArray := prog_54_method_31_code
def yJ23_putIfAbsent : MethodName := ⟨RJ23, "putIfAbsent", "(Ljava/lang/Object;Ljava/lang/Object;)Ljava/lang/Object;"⟩
def dkwJ23_putIfAbsent_0 : List UInt8 := [42, 43, 184, 0, 149, 43, 44, 4, 4, 182, 0, 152, 176]
abbrev dktJ23_putIfAbsent_0 : List UInt8 := dkwJ23_putIfAbsent_0 ++ []
theorem dksJ23_putIfAbsent_0 : cJ23_putIfAbsent.data.toList.drop 0 = dktJ23_putIfAbsent_0 := by decide +kernel
theorem dJ23_putIfAbsent_0 : decode cJ23_putIfAbsent 0 = .ok (.aload_n 0, 1) := dk_42 (dk_at dksJ23_putIfAbsent_0 0 rfl rfl)
theorem dJ23_putIfAbsent_1 : decode cJ23_putIfAbsent 1 = .ok (.aload_n 1, 1) := dk_43 (dk_at dksJ23_putIfAbsent_0 1 rfl rfl)
theorem dJ23_putIfAbsent_2 : decode cJ23_putIfAbsent 2 = .ok (.invokestatic 149, 3) := dk_184 0 149 (dk_at dksJ23_putIfAbsent_0 2 rfl rfl)
theorem dJ23_putIfAbsent_5 : decode cJ23_putIfAbsent 5 = .ok (.aload_n 1, 1) := dk_43 (dk_at dksJ23_putIfAbsent_0 5 rfl rfl)
theorem dJ23_putIfAbsent_6 : decode cJ23_putIfAbsent 6 = .ok (.aload_n 2, 1) := dk_44 (dk_at dksJ23_putIfAbsent_0 6 rfl rfl)
theorem dJ23_putIfAbsent_7 : decode cJ23_putIfAbsent 7 = .ok (.iconst 1, 1) := dk_4 (dk_at dksJ23_putIfAbsent_0 7 rfl rfl)
theorem dJ23_putIfAbsent_8 : decode cJ23_putIfAbsent 8 = .ok (.iconst 1, 1) := dk_4 (dk_at dksJ23_putIfAbsent_0 8 rfl rfl)
theorem dJ23_putIfAbsent_9 : decode cJ23_putIfAbsent 9 = .ok (.invokevirtual 152, 3) := dk_182 0 152 (dk_at dksJ23_putIfAbsent_0 9 rfl rfl)
theorem dJ23_putIfAbsent_12 : decode cJ23_putIfAbsent 12 = .ok (.areturn, 1) := dk_176 (dk_at dksJ23_putIfAbsent_0 12 rfl rfl)
abbrev cJ23_hash : ByteArray := prog_54_method_1_code
def yJ23_hash : MethodName := ⟨RJ23, "hash", "(Ljava/lang/Object;)I"⟩
def dkwJ23_hash_0 : List UInt8 := [42, 199, 0, 7, 3, 167, 0, 14, 42, 182, 0, 1, 89, 60, 27, 16, 16, 124, 130, 172]
abbrev dktJ23_hash_0 : List UInt8 := dkwJ23_hash_0 ++ []
theorem dksJ23_hash_0 : cJ23_hash.data.toList.drop 0 = dktJ23_hash_0 := by decide +kernel
theorem dJ23_hash_0 : decode cJ23_hash 0 = .ok (.aload_n 0, 1) := dk_42 (dk_at dksJ23_hash_0 0 rfl rfl)
theorem dJ23_hash_1 : decode cJ23_hash 1 = .ok (.ifnonnull 7, 3) := dk_199 0 7 (dk_at dksJ23_hash_0 1 rfl rfl)
theorem dJ23_hash_4 : decode cJ23_hash 4 = .ok (.iconst 0, 1) := dk_3 (dk_at dksJ23_hash_0 4 rfl rfl)
theorem dJ23_hash_5 : decode cJ23_hash 5 = .ok (.goto 14, 3) := dk_167 0 14 (dk_at dksJ23_hash_0 5 rfl rfl)
theorem dJ23_hash_8 : decode cJ23_hash 8 = .ok (.aload_n 0, 1) := dk_42 (dk_at dksJ23_hash_0 8 rfl rfl)
theorem dJ23_hash_9 : decode cJ23_hash 9 = .ok (.invokevirtual 1, 3) := dk_182 0 1 (dk_at dksJ23_hash_0 9 rfl rfl)
theorem dJ23_hash_12 : decode cJ23_hash 12 = .ok (.dup, 1) := dk_89 (dk_at dksJ23_hash_0 12 rfl rfl)
theorem dJ23_hash_13 : decode cJ23_hash 13 = .ok (.istore_n 1, 1) := dk_60 (dk_at dksJ23_hash_0 13 rfl rfl)
theorem dJ23_hash_14 : decode cJ23_hash 14 = .ok (.iload_n 1, 1) := dk_27 (dk_at dksJ23_hash_0 14 rfl rfl)
theorem dJ23_hash_15 : decode cJ23_hash 15 = .ok (.bipush 16, 2) := dk_16 16 (dk_at dksJ23_hash_0 15 rfl rfl)
theorem dJ23_hash_17 : decode cJ23_hash 17 = .ok (.iushr, 1) := dk_124 (dk_at dksJ23_hash_0 17 rfl rfl)
theorem dJ23_hash_18 : decode cJ23_hash 18 = .ok (.ixor, 1) := dk_130 (dk_at dksJ23_hash_0 18 rfl rfl)
theorem dJ23_hash_19 : decode cJ23_hash 19 = .ok (.ireturn, 1) := dk_172 (dk_at dksJ23_hash_0 19 rfl rfl)
abbrev cJ23_putVal : ByteArray := prog_54_method_16_code
def yJ23_putVal : MethodName := ⟨RJ23, "putVal", "(ILjava/lang/Object;Ljava/lang/Object;ZZ)Ljava/lang/Object;"⟩
def dkwJ23_putVal_12 : List UInt8 := [181, 0, 156, 42, 180, 0, 88, 164, 0, 8, 42, 182, 0, 117, 87, 42, 21, 5, 182, 0, 205, 1, 176]
abbrev dktJ23_putVal_12 : List UInt8 := dkwJ23_putVal_12 ++ []
def dkwJ23_putVal_11 : List UInt8 := [182, 0, 198, 25, 12, 176, 42, 89, 180, 0, 202, 4, 96, 181, 0, 202, 42, 89, 180, 0, 156, 4, 96, 90]
abbrev dktJ23_putVal_11 : List UInt8 := dkwJ23_putVal_11 ++ dktJ23_putVal_12
def dkwJ23_putVal_10 : List UInt8 := [180, 0, 162, 58, 12, 21, 4, 153, 0, 8, 25, 12, 199, 0, 9, 25, 10, 45, 181, 0, 162, 42, 25, 10]
abbrev dktJ23_putVal_10 : List UInt8 := dkwJ23_putVal_10 ++ dktJ23_putVal_11
def dkwJ23_putVal_9 : List UInt8 := [153, 0, 6, 167, 0, 13, 25, 10, 58, 7, 132, 12, 1, 167, 255, 171, 25, 10, 198, 0, 35, 25, 10]
abbrev dktJ23_putVal_9 : List UInt8 := dkwJ23_putVal_9 ++ dktJ23_putVal_10
def dkwJ23_putVal_8 : List UInt8 := [25, 10, 180, 0, 170, 89, 58, 11, 44, 165, 0, 29, 44, 198, 0, 15, 44, 25, 11, 182, 0, 173]
abbrev dktJ23_putVal_8 : List UInt8 := dkwJ23_putVal_8 ++ dktJ23_putVal_9
def dkwJ23_putVal_7 : List UInt8 := [16, 7, 161, 0, 60, 42, 25, 6, 27, 182, 0, 194, 167, 0, 50, 25, 10, 180, 0, 168, 27, 160, 0, 31]
abbrev dktJ23_putVal_7 : List UInt8 := dkwJ23_putVal_7 ++ dktJ23_putVal_8
def dkwJ23_putVal_6 : List UInt8 := [180, 0, 177, 89, 58, 10, 199, 0, 33, 25, 7, 42, 27, 44, 45, 1, 182, 0, 186, 181, 0, 177, 21, 12]
abbrev dktJ23_putVal_6 : List UInt8 := dkwJ23_putVal_6 ++ dktJ23_putVal_7
def dkwJ23_putVal_5 : List UInt8 := [192, 0, 180, 42, 25, 6, 27, 44, 45, 182, 0, 190, 58, 10, 167, 0, 94, 3, 54, 12, 25, 7]
abbrev dktJ23_putVal_5 : List UInt8 := dkwJ23_putVal_5 ++ dktJ23_putVal_6
def dkwJ23_putVal_4 : List UInt8 := [182, 0, 173, 153, 0, 10, 25, 7, 58, 10, 167, 0, 121, 25, 7, 193, 0, 180, 153, 0, 22, 25, 7]
abbrev dktJ23_putVal_4 : List UInt8 := dkwJ23_putVal_4 ++ dktJ23_putVal_5
def dkwJ23_putVal_3 : List UInt8 := [160, 0, 35, 25, 7, 180, 0, 170, 89, 58, 11, 44, 165, 0, 16, 44, 198, 0, 19, 44, 25, 11]
abbrev dktJ23_putVal_3 : List UInt8 := dkwJ23_putVal_3 ++ dktJ23_putVal_4
def dkwJ23_putVal_2 : List UInt8 := [25, 6, 21, 9, 42, 27, 44, 45, 1, 182, 0, 186, 83, 167, 0, 199, 25, 7, 180, 0, 168, 27]
abbrev dktJ23_putVal_2 : List UInt8 := dkwJ23_putVal_2 ++ dktJ23_putVal_3
def dkwJ23_putVal_1 : List UInt8 := [58, 6, 190, 54, 8, 25, 6, 21, 8, 4, 100, 27, 126, 89, 54, 9, 50, 89, 58, 7, 199, 0, 19]
abbrev dktJ23_putVal_1 : List UInt8 := dkwJ23_putVal_1 ++ dktJ23_putVal_2
def dkwJ23_putVal_0 : List UInt8 := [42, 180, 0, 105, 89, 58, 6, 198, 0, 12, 25, 6, 190, 89, 54, 8, 154, 0, 13, 42, 182, 0, 117, 89]
abbrev dktJ23_putVal_0 : List UInt8 := dkwJ23_putVal_0 ++ dktJ23_putVal_1
theorem dksJ23_putVal_0 : cJ23_putVal.data.toList.drop 0 = dktJ23_putVal_0 := by decide +kernel
theorem dksJ23_putVal_1 : cJ23_putVal.data.toList.drop 24 = dktJ23_putVal_1 := dk_seg dksJ23_putVal_0 24 rfl rfl
theorem dksJ23_putVal_2 : cJ23_putVal.data.toList.drop 47 = dktJ23_putVal_2 := dk_seg dksJ23_putVal_1 23 rfl rfl
theorem dksJ23_putVal_3 : cJ23_putVal.data.toList.drop 69 = dktJ23_putVal_3 := dk_seg dksJ23_putVal_2 22 rfl rfl
theorem dksJ23_putVal_4 : cJ23_putVal.data.toList.drop 91 = dktJ23_putVal_4 := dk_seg dksJ23_putVal_3 22 rfl rfl
theorem dksJ23_putVal_5 : cJ23_putVal.data.toList.drop 114 = dktJ23_putVal_5 := dk_seg dksJ23_putVal_4 23 rfl rfl
theorem dksJ23_putVal_6 : cJ23_putVal.data.toList.drop 136 = dktJ23_putVal_6 := dk_seg dksJ23_putVal_5 22 rfl rfl
theorem dksJ23_putVal_7 : cJ23_putVal.data.toList.drop 160 = dktJ23_putVal_7 := dk_seg dksJ23_putVal_6 24 rfl rfl
theorem dksJ23_putVal_8 : cJ23_putVal.data.toList.drop 184 = dktJ23_putVal_8 := dk_seg dksJ23_putVal_7 24 rfl rfl
theorem dksJ23_putVal_9 : cJ23_putVal.data.toList.drop 206 = dktJ23_putVal_9 := dk_seg dksJ23_putVal_8 22 rfl rfl
theorem dksJ23_putVal_10 : cJ23_putVal.data.toList.drop 229 = dktJ23_putVal_10 := dk_seg dksJ23_putVal_9 23 rfl rfl
theorem dksJ23_putVal_11 : cJ23_putVal.data.toList.drop 253 = dktJ23_putVal_11 := dk_seg dksJ23_putVal_10 24 rfl rfl
theorem dksJ23_putVal_12 : cJ23_putVal.data.toList.drop 277 = dktJ23_putVal_12 := dk_seg dksJ23_putVal_11 24 rfl rfl
theorem dJ23_putVal_0 : decode cJ23_putVal 0 = .ok (.aload_n 0, 1) := dk_42 (dk_at dksJ23_putVal_0 0 rfl rfl)
theorem dJ23_putVal_1 : decode cJ23_putVal 1 = .ok (.getfield 105, 3) := dk_180 0 105 (dk_at dksJ23_putVal_0 1 rfl rfl)
theorem dJ23_putVal_4 : decode cJ23_putVal 4 = .ok (.dup, 1) := dk_89 (dk_at dksJ23_putVal_0 4 rfl rfl)
theorem dJ23_putVal_5 : decode cJ23_putVal 5 = .ok (.astore 6, 2) := dk_58 6 (dk_at dksJ23_putVal_0 5 rfl rfl)
theorem dJ23_putVal_7 : decode cJ23_putVal 7 = .ok (.ifnull 12, 3) := dk_198 0 12 (dk_at dksJ23_putVal_0 7 rfl rfl)
theorem dJ23_putVal_10 : decode cJ23_putVal 10 = .ok (.aload 6, 2) := dk_25 6 (dk_at dksJ23_putVal_0 10 rfl rfl)
theorem dJ23_putVal_12 : decode cJ23_putVal 12 = .ok (.arraylength, 1) := dk_190 (dk_at dksJ23_putVal_0 12 rfl rfl)
theorem dJ23_putVal_13 : decode cJ23_putVal 13 = .ok (.dup, 1) := dk_89 (dk_at dksJ23_putVal_0 13 rfl rfl)
theorem dJ23_putVal_14 : decode cJ23_putVal 14 = .ok (.istore 8, 2) := dk_54 8 (dk_at dksJ23_putVal_0 14 rfl rfl)
theorem dJ23_putVal_16 : decode cJ23_putVal 16 = .ok (.ifCond .ne 13, 3) := dk_154 0 13 (dk_at dksJ23_putVal_0 16 rfl rfl)
theorem dJ23_putVal_19 : decode cJ23_putVal 19 = .ok (.aload_n 0, 1) := dk_42 (dk_at dksJ23_putVal_0 19 rfl rfl)
theorem dJ23_putVal_20 : decode cJ23_putVal 20 = .ok (.invokevirtual 117, 3) := dk_182 0 117 (dk_at dksJ23_putVal_0 20 rfl rfl)
theorem dJ23_putVal_23 : decode cJ23_putVal 23 = .ok (.dup, 1) := dk_89 (dk_at dksJ23_putVal_0 23 rfl rfl)
theorem dJ23_putVal_24 : decode cJ23_putVal 24 = .ok (.astore 6, 2) := dk_58 6 (dk_at dksJ23_putVal_1 0 rfl rfl)
theorem dJ23_putVal_26 : decode cJ23_putVal 26 = .ok (.arraylength, 1) := dk_190 (dk_at dksJ23_putVal_1 2 rfl rfl)
theorem dJ23_putVal_27 : decode cJ23_putVal 27 = .ok (.istore 8, 2) := dk_54 8 (dk_at dksJ23_putVal_1 3 rfl rfl)
theorem dJ23_putVal_29 : decode cJ23_putVal 29 = .ok (.aload 6, 2) := dk_25 6 (dk_at dksJ23_putVal_1 5 rfl rfl)
theorem dJ23_putVal_31 : decode cJ23_putVal 31 = .ok (.iload 8, 2) := dk_21 8 (dk_at dksJ23_putVal_1 7 rfl rfl)
theorem dJ23_putVal_33 : decode cJ23_putVal 33 = .ok (.iconst 1, 1) := dk_4 (dk_at dksJ23_putVal_1 9 rfl rfl)
theorem dJ23_putVal_34 : decode cJ23_putVal 34 = .ok (.isub, 1) := dk_100 (dk_at dksJ23_putVal_1 10 rfl rfl)
theorem dJ23_putVal_35 : decode cJ23_putVal 35 = .ok (.iload_n 1, 1) := dk_27 (dk_at dksJ23_putVal_1 11 rfl rfl)
theorem dJ23_putVal_36 : decode cJ23_putVal 36 = .ok (.iand, 1) := dk_126 (dk_at dksJ23_putVal_1 12 rfl rfl)
theorem dJ23_putVal_37 : decode cJ23_putVal 37 = .ok (.dup, 1) := dk_89 (dk_at dksJ23_putVal_1 13 rfl rfl)
theorem dJ23_putVal_38 : decode cJ23_putVal 38 = .ok (.istore 9, 2) := dk_54 9 (dk_at dksJ23_putVal_1 14 rfl rfl)
theorem dJ23_putVal_40 : decode cJ23_putVal 40 = .ok (.aaload, 1) := dk_50 (dk_at dksJ23_putVal_1 16 rfl rfl)
theorem dJ23_putVal_41 : decode cJ23_putVal 41 = .ok (.dup, 1) := dk_89 (dk_at dksJ23_putVal_1 17 rfl rfl)
theorem dJ23_putVal_42 : decode cJ23_putVal 42 = .ok (.astore 7, 2) := dk_58 7 (dk_at dksJ23_putVal_1 18 rfl rfl)
theorem dJ23_putVal_44 : decode cJ23_putVal 44 = .ok (.ifnonnull 19, 3) := dk_199 0 19 (dk_at dksJ23_putVal_1 20 rfl rfl)
theorem dJ23_putVal_47 : decode cJ23_putVal 47 = .ok (.aload 6, 2) := dk_25 6 (dk_at dksJ23_putVal_2 0 rfl rfl)
theorem dJ23_putVal_49 : decode cJ23_putVal 49 = .ok (.iload 9, 2) := dk_21 9 (dk_at dksJ23_putVal_2 2 rfl rfl)
theorem dJ23_putVal_51 : decode cJ23_putVal 51 = .ok (.aload_n 0, 1) := dk_42 (dk_at dksJ23_putVal_2 4 rfl rfl)
theorem dJ23_putVal_52 : decode cJ23_putVal 52 = .ok (.iload_n 1, 1) := dk_27 (dk_at dksJ23_putVal_2 5 rfl rfl)
theorem dJ23_putVal_53 : decode cJ23_putVal 53 = .ok (.aload_n 2, 1) := dk_44 (dk_at dksJ23_putVal_2 6 rfl rfl)
theorem dJ23_putVal_54 : decode cJ23_putVal 54 = .ok (.aload_n 3, 1) := dk_45 (dk_at dksJ23_putVal_2 7 rfl rfl)
theorem dJ23_putVal_55 : decode cJ23_putVal 55 = .ok (.aconst_null, 1) := dk_1 (dk_at dksJ23_putVal_2 8 rfl rfl)
theorem dJ23_putVal_56 : decode cJ23_putVal 56 = .ok (.invokevirtual 186, 3) := dk_182 0 186 (dk_at dksJ23_putVal_2 9 rfl rfl)
theorem dJ23_putVal_59 : decode cJ23_putVal 59 = .ok (.aastore, 1) := dk_83 (dk_at dksJ23_putVal_2 12 rfl rfl)
theorem dJ23_putVal_60 : decode cJ23_putVal 60 = .ok (.goto 199, 3) := dk_167 0 199 (dk_at dksJ23_putVal_2 13 rfl rfl)
theorem dJ23_putVal_63 : decode cJ23_putVal 63 = .ok (.aload 7, 2) := dk_25 7 (dk_at dksJ23_putVal_2 16 rfl rfl)
theorem dJ23_putVal_65 : decode cJ23_putVal 65 = .ok (.getfield 168, 3) := dk_180 0 168 (dk_at dksJ23_putVal_2 18 rfl rfl)
theorem dJ23_putVal_68 : decode cJ23_putVal 68 = .ok (.iload_n 1, 1) := dk_27 (dk_at dksJ23_putVal_2 21 rfl rfl)
theorem dJ23_putVal_69 : decode cJ23_putVal 69 = .ok (.if_icmp .ne 35, 3) := dk_160 0 35 (dk_at dksJ23_putVal_3 0 rfl rfl)
theorem dJ23_putVal_72 : decode cJ23_putVal 72 = .ok (.aload 7, 2) := dk_25 7 (dk_at dksJ23_putVal_3 3 rfl rfl)
theorem dJ23_putVal_74 : decode cJ23_putVal 74 = .ok (.getfield 170, 3) := dk_180 0 170 (dk_at dksJ23_putVal_3 5 rfl rfl)
theorem dJ23_putVal_77 : decode cJ23_putVal 77 = .ok (.dup, 1) := dk_89 (dk_at dksJ23_putVal_3 8 rfl rfl)
theorem dJ23_putVal_78 : decode cJ23_putVal 78 = .ok (.astore 11, 2) := dk_58 11 (dk_at dksJ23_putVal_3 9 rfl rfl)
theorem dJ23_putVal_80 : decode cJ23_putVal 80 = .ok (.aload_n 2, 1) := dk_44 (dk_at dksJ23_putVal_3 11 rfl rfl)
theorem dJ23_putVal_81 : decode cJ23_putVal 81 = .ok (.if_acmp .eq 16, 3) := dk_165 0 16 (dk_at dksJ23_putVal_3 12 rfl rfl)
theorem dJ23_putVal_84 : decode cJ23_putVal 84 = .ok (.aload_n 2, 1) := dk_44 (dk_at dksJ23_putVal_3 15 rfl rfl)
theorem dJ23_putVal_85 : decode cJ23_putVal 85 = .ok (.ifnull 19, 3) := dk_198 0 19 (dk_at dksJ23_putVal_3 16 rfl rfl)
theorem dJ23_putVal_88 : decode cJ23_putVal 88 = .ok (.aload_n 2, 1) := dk_44 (dk_at dksJ23_putVal_3 19 rfl rfl)
theorem dJ23_putVal_89 : decode cJ23_putVal 89 = .ok (.aload 11, 2) := dk_25 11 (dk_at dksJ23_putVal_3 20 rfl rfl)
theorem dJ23_putVal_91 : decode cJ23_putVal 91 = .ok (.invokevirtual 173, 3) := dk_182 0 173 (dk_at dksJ23_putVal_4 0 rfl rfl)
theorem dJ23_putVal_94 : decode cJ23_putVal 94 = .ok (.ifCond .eq 10, 3) := dk_153 0 10 (dk_at dksJ23_putVal_4 3 rfl rfl)
theorem dJ23_putVal_97 : decode cJ23_putVal 97 = .ok (.aload 7, 2) := dk_25 7 (dk_at dksJ23_putVal_4 6 rfl rfl)
theorem dJ23_putVal_99 : decode cJ23_putVal 99 = .ok (.astore 10, 2) := dk_58 10 (dk_at dksJ23_putVal_4 8 rfl rfl)
theorem dJ23_putVal_101 : decode cJ23_putVal 101 = .ok (.goto 121, 3) := dk_167 0 121 (dk_at dksJ23_putVal_4 10 rfl rfl)
theorem dJ23_putVal_104 : decode cJ23_putVal 104 = .ok (.aload 7, 2) := dk_25 7 (dk_at dksJ23_putVal_4 13 rfl rfl)
theorem dJ23_putVal_106 : decode cJ23_putVal 106 = .ok (.instanceof 180, 3) := dk_193 0 180 (dk_at dksJ23_putVal_4 15 rfl rfl)
theorem dJ23_putVal_109 : decode cJ23_putVal 109 = .ok (.ifCond .eq 22, 3) := dk_153 0 22 (dk_at dksJ23_putVal_4 18 rfl rfl)
theorem dJ23_putVal_112 : decode cJ23_putVal 112 = .ok (.aload 7, 2) := dk_25 7 (dk_at dksJ23_putVal_4 21 rfl rfl)
theorem dJ23_putVal_114 : decode cJ23_putVal 114 = .ok (.checkcast 180, 3) := dk_192 0 180 (dk_at dksJ23_putVal_5 0 rfl rfl)
theorem dJ23_putVal_117 : decode cJ23_putVal 117 = .ok (.aload_n 0, 1) := dk_42 (dk_at dksJ23_putVal_5 3 rfl rfl)
theorem dJ23_putVal_118 : decode cJ23_putVal 118 = .ok (.aload 6, 2) := dk_25 6 (dk_at dksJ23_putVal_5 4 rfl rfl)
theorem dJ23_putVal_120 : decode cJ23_putVal 120 = .ok (.iload_n 1, 1) := dk_27 (dk_at dksJ23_putVal_5 6 rfl rfl)
theorem dJ23_putVal_121 : decode cJ23_putVal 121 = .ok (.aload_n 2, 1) := dk_44 (dk_at dksJ23_putVal_5 7 rfl rfl)
theorem dJ23_putVal_122 : decode cJ23_putVal 122 = .ok (.aload_n 3, 1) := dk_45 (dk_at dksJ23_putVal_5 8 rfl rfl)
theorem dJ23_putVal_123 : decode cJ23_putVal 123 = .ok (.invokevirtual 190, 3) := dk_182 0 190 (dk_at dksJ23_putVal_5 9 rfl rfl)
theorem dJ23_putVal_126 : decode cJ23_putVal 126 = .ok (.astore 10, 2) := dk_58 10 (dk_at dksJ23_putVal_5 12 rfl rfl)
theorem dJ23_putVal_128 : decode cJ23_putVal 128 = .ok (.goto 94, 3) := dk_167 0 94 (dk_at dksJ23_putVal_5 14 rfl rfl)
theorem dJ23_putVal_131 : decode cJ23_putVal 131 = .ok (.iconst 0, 1) := dk_3 (dk_at dksJ23_putVal_5 17 rfl rfl)
theorem dJ23_putVal_132 : decode cJ23_putVal 132 = .ok (.istore 12, 2) := dk_54 12 (dk_at dksJ23_putVal_5 18 rfl rfl)
theorem dJ23_putVal_134 : decode cJ23_putVal 134 = .ok (.aload 7, 2) := dk_25 7 (dk_at dksJ23_putVal_5 20 rfl rfl)
theorem dJ23_putVal_136 : decode cJ23_putVal 136 = .ok (.getfield 177, 3) := dk_180 0 177 (dk_at dksJ23_putVal_6 0 rfl rfl)
theorem dJ23_putVal_139 : decode cJ23_putVal 139 = .ok (.dup, 1) := dk_89 (dk_at dksJ23_putVal_6 3 rfl rfl)
theorem dJ23_putVal_140 : decode cJ23_putVal 140 = .ok (.astore 10, 2) := dk_58 10 (dk_at dksJ23_putVal_6 4 rfl rfl)
theorem dJ23_putVal_142 : decode cJ23_putVal 142 = .ok (.ifnonnull 33, 3) := dk_199 0 33 (dk_at dksJ23_putVal_6 6 rfl rfl)
theorem dJ23_putVal_145 : decode cJ23_putVal 145 = .ok (.aload 7, 2) := dk_25 7 (dk_at dksJ23_putVal_6 9 rfl rfl)
theorem dJ23_putVal_147 : decode cJ23_putVal 147 = .ok (.aload_n 0, 1) := dk_42 (dk_at dksJ23_putVal_6 11 rfl rfl)
theorem dJ23_putVal_148 : decode cJ23_putVal 148 = .ok (.iload_n 1, 1) := dk_27 (dk_at dksJ23_putVal_6 12 rfl rfl)
theorem dJ23_putVal_149 : decode cJ23_putVal 149 = .ok (.aload_n 2, 1) := dk_44 (dk_at dksJ23_putVal_6 13 rfl rfl)
theorem dJ23_putVal_150 : decode cJ23_putVal 150 = .ok (.aload_n 3, 1) := dk_45 (dk_at dksJ23_putVal_6 14 rfl rfl)
theorem dJ23_putVal_151 : decode cJ23_putVal 151 = .ok (.aconst_null, 1) := dk_1 (dk_at dksJ23_putVal_6 15 rfl rfl)
theorem dJ23_putVal_152 : decode cJ23_putVal 152 = .ok (.invokevirtual 186, 3) := dk_182 0 186 (dk_at dksJ23_putVal_6 16 rfl rfl)
theorem dJ23_putVal_155 : decode cJ23_putVal 155 = .ok (.putfield 177, 3) := dk_181 0 177 (dk_at dksJ23_putVal_6 19 rfl rfl)
theorem dJ23_putVal_158 : decode cJ23_putVal 158 = .ok (.iload 12, 2) := dk_21 12 (dk_at dksJ23_putVal_6 22 rfl rfl)
theorem dJ23_putVal_160 : decode cJ23_putVal 160 = .ok (.bipush 7, 2) := dk_16 7 (dk_at dksJ23_putVal_7 0 rfl rfl)
theorem dJ23_putVal_162 : decode cJ23_putVal 162 = .ok (.if_icmp .lt 60, 3) := dk_161 0 60 (dk_at dksJ23_putVal_7 2 rfl rfl)
theorem dJ23_putVal_165 : decode cJ23_putVal 165 = .ok (.aload_n 0, 1) := dk_42 (dk_at dksJ23_putVal_7 5 rfl rfl)
theorem dJ23_putVal_166 : decode cJ23_putVal 166 = .ok (.aload 6, 2) := dk_25 6 (dk_at dksJ23_putVal_7 6 rfl rfl)
theorem dJ23_putVal_168 : decode cJ23_putVal 168 = .ok (.iload_n 1, 1) := dk_27 (dk_at dksJ23_putVal_7 8 rfl rfl)
theorem dJ23_putVal_169 : decode cJ23_putVal 169 = .ok (.invokevirtual 194, 3) := dk_182 0 194 (dk_at dksJ23_putVal_7 9 rfl rfl)
theorem dJ23_putVal_172 : decode cJ23_putVal 172 = .ok (.goto 50, 3) := dk_167 0 50 (dk_at dksJ23_putVal_7 12 rfl rfl)
theorem dJ23_putVal_175 : decode cJ23_putVal 175 = .ok (.aload 10, 2) := dk_25 10 (dk_at dksJ23_putVal_7 15 rfl rfl)
theorem dJ23_putVal_177 : decode cJ23_putVal 177 = .ok (.getfield 168, 3) := dk_180 0 168 (dk_at dksJ23_putVal_7 17 rfl rfl)
theorem dJ23_putVal_180 : decode cJ23_putVal 180 = .ok (.iload_n 1, 1) := dk_27 (dk_at dksJ23_putVal_7 20 rfl rfl)
theorem dJ23_putVal_181 : decode cJ23_putVal 181 = .ok (.if_icmp .ne 31, 3) := dk_160 0 31 (dk_at dksJ23_putVal_7 21 rfl rfl)
theorem dJ23_putVal_184 : decode cJ23_putVal 184 = .ok (.aload 10, 2) := dk_25 10 (dk_at dksJ23_putVal_8 0 rfl rfl)
theorem dJ23_putVal_186 : decode cJ23_putVal 186 = .ok (.getfield 170, 3) := dk_180 0 170 (dk_at dksJ23_putVal_8 2 rfl rfl)
theorem dJ23_putVal_189 : decode cJ23_putVal 189 = .ok (.dup, 1) := dk_89 (dk_at dksJ23_putVal_8 5 rfl rfl)
theorem dJ23_putVal_190 : decode cJ23_putVal 190 = .ok (.astore 11, 2) := dk_58 11 (dk_at dksJ23_putVal_8 6 rfl rfl)
theorem dJ23_putVal_192 : decode cJ23_putVal 192 = .ok (.aload_n 2, 1) := dk_44 (dk_at dksJ23_putVal_8 8 rfl rfl)
theorem dJ23_putVal_193 : decode cJ23_putVal 193 = .ok (.if_acmp .eq 29, 3) := dk_165 0 29 (dk_at dksJ23_putVal_8 9 rfl rfl)
theorem dJ23_putVal_196 : decode cJ23_putVal 196 = .ok (.aload_n 2, 1) := dk_44 (dk_at dksJ23_putVal_8 12 rfl rfl)
theorem dJ23_putVal_197 : decode cJ23_putVal 197 = .ok (.ifnull 15, 3) := dk_198 0 15 (dk_at dksJ23_putVal_8 13 rfl rfl)
theorem dJ23_putVal_200 : decode cJ23_putVal 200 = .ok (.aload_n 2, 1) := dk_44 (dk_at dksJ23_putVal_8 16 rfl rfl)
theorem dJ23_putVal_201 : decode cJ23_putVal 201 = .ok (.aload 11, 2) := dk_25 11 (dk_at dksJ23_putVal_8 17 rfl rfl)
theorem dJ23_putVal_203 : decode cJ23_putVal 203 = .ok (.invokevirtual 173, 3) := dk_182 0 173 (dk_at dksJ23_putVal_8 19 rfl rfl)
theorem dJ23_putVal_206 : decode cJ23_putVal 206 = .ok (.ifCond .eq 6, 3) := dk_153 0 6 (dk_at dksJ23_putVal_9 0 rfl rfl)
theorem dJ23_putVal_209 : decode cJ23_putVal 209 = .ok (.goto 13, 3) := dk_167 0 13 (dk_at dksJ23_putVal_9 3 rfl rfl)
theorem dJ23_putVal_212 : decode cJ23_putVal 212 = .ok (.aload 10, 2) := dk_25 10 (dk_at dksJ23_putVal_9 6 rfl rfl)
theorem dJ23_putVal_214 : decode cJ23_putVal 214 = .ok (.astore 7, 2) := dk_58 7 (dk_at dksJ23_putVal_9 8 rfl rfl)
theorem dJ23_putVal_216 : decode cJ23_putVal 216 = .ok (.iinc 12 1, 3) := dk_132 12 1 (dk_at dksJ23_putVal_9 10 rfl rfl)
theorem dJ23_putVal_219 : decode cJ23_putVal 219 = .ok (.goto (-85), 3) := dk_167 255 171 (dk_at dksJ23_putVal_9 13 rfl rfl)
theorem dJ23_putVal_222 : decode cJ23_putVal 222 = .ok (.aload 10, 2) := dk_25 10 (dk_at dksJ23_putVal_9 16 rfl rfl)
theorem dJ23_putVal_224 : decode cJ23_putVal 224 = .ok (.ifnull 35, 3) := dk_198 0 35 (dk_at dksJ23_putVal_9 18 rfl rfl)
theorem dJ23_putVal_227 : decode cJ23_putVal 227 = .ok (.aload 10, 2) := dk_25 10 (dk_at dksJ23_putVal_9 21 rfl rfl)
theorem dJ23_putVal_229 : decode cJ23_putVal 229 = .ok (.getfield 162, 3) := dk_180 0 162 (dk_at dksJ23_putVal_10 0 rfl rfl)
theorem dJ23_putVal_232 : decode cJ23_putVal 232 = .ok (.astore 12, 2) := dk_58 12 (dk_at dksJ23_putVal_10 3 rfl rfl)
theorem dJ23_putVal_234 : decode cJ23_putVal 234 = .ok (.iload 4, 2) := dk_21 4 (dk_at dksJ23_putVal_10 5 rfl rfl)
theorem dJ23_putVal_236 : decode cJ23_putVal 236 = .ok (.ifCond .eq 8, 3) := dk_153 0 8 (dk_at dksJ23_putVal_10 7 rfl rfl)
theorem dJ23_putVal_239 : decode cJ23_putVal 239 = .ok (.aload 12, 2) := dk_25 12 (dk_at dksJ23_putVal_10 10 rfl rfl)
theorem dJ23_putVal_241 : decode cJ23_putVal 241 = .ok (.ifnonnull 9, 3) := dk_199 0 9 (dk_at dksJ23_putVal_10 12 rfl rfl)
theorem dJ23_putVal_244 : decode cJ23_putVal 244 = .ok (.aload 10, 2) := dk_25 10 (dk_at dksJ23_putVal_10 15 rfl rfl)
theorem dJ23_putVal_246 : decode cJ23_putVal 246 = .ok (.aload_n 3, 1) := dk_45 (dk_at dksJ23_putVal_10 17 rfl rfl)
theorem dJ23_putVal_247 : decode cJ23_putVal 247 = .ok (.putfield 162, 3) := dk_181 0 162 (dk_at dksJ23_putVal_10 18 rfl rfl)
theorem dJ23_putVal_250 : decode cJ23_putVal 250 = .ok (.aload_n 0, 1) := dk_42 (dk_at dksJ23_putVal_10 21 rfl rfl)
theorem dJ23_putVal_251 : decode cJ23_putVal 251 = .ok (.aload 10, 2) := dk_25 10 (dk_at dksJ23_putVal_10 22 rfl rfl)
theorem dJ23_putVal_253 : decode cJ23_putVal 253 = .ok (.invokevirtual 198, 3) := dk_182 0 198 (dk_at dksJ23_putVal_11 0 rfl rfl)
theorem dJ23_putVal_256 : decode cJ23_putVal 256 = .ok (.aload 12, 2) := dk_25 12 (dk_at dksJ23_putVal_11 3 rfl rfl)
theorem dJ23_putVal_258 : decode cJ23_putVal 258 = .ok (.areturn, 1) := dk_176 (dk_at dksJ23_putVal_11 5 rfl rfl)
theorem dJ23_putVal_259 : decode cJ23_putVal 259 = .ok (.aload_n 0, 1) := dk_42 (dk_at dksJ23_putVal_11 6 rfl rfl)
theorem dJ23_putVal_260 : decode cJ23_putVal 260 = .ok (.dup, 1) := dk_89 (dk_at dksJ23_putVal_11 7 rfl rfl)
theorem dJ23_putVal_261 : decode cJ23_putVal 261 = .ok (.getfield 202, 3) := dk_180 0 202 (dk_at dksJ23_putVal_11 8 rfl rfl)
theorem dJ23_putVal_264 : decode cJ23_putVal 264 = .ok (.iconst 1, 1) := dk_4 (dk_at dksJ23_putVal_11 11 rfl rfl)
theorem dJ23_putVal_265 : decode cJ23_putVal 265 = .ok (.iadd, 1) := dk_96 (dk_at dksJ23_putVal_11 12 rfl rfl)
theorem dJ23_putVal_266 : decode cJ23_putVal 266 = .ok (.putfield 202, 3) := dk_181 0 202 (dk_at dksJ23_putVal_11 13 rfl rfl)
theorem dJ23_putVal_269 : decode cJ23_putVal 269 = .ok (.aload_n 0, 1) := dk_42 (dk_at dksJ23_putVal_11 16 rfl rfl)
theorem dJ23_putVal_270 : decode cJ23_putVal 270 = .ok (.dup, 1) := dk_89 (dk_at dksJ23_putVal_11 17 rfl rfl)
theorem dJ23_putVal_271 : decode cJ23_putVal 271 = .ok (.getfield 156, 3) := dk_180 0 156 (dk_at dksJ23_putVal_11 18 rfl rfl)
theorem dJ23_putVal_274 : decode cJ23_putVal 274 = .ok (.iconst 1, 1) := dk_4 (dk_at dksJ23_putVal_11 21 rfl rfl)
theorem dJ23_putVal_275 : decode cJ23_putVal 275 = .ok (.iadd, 1) := dk_96 (dk_at dksJ23_putVal_11 22 rfl rfl)
theorem dJ23_putVal_276 : decode cJ23_putVal 276 = .ok (.dup_x1, 1) := dk_90 (dk_at dksJ23_putVal_11 23 rfl rfl)
theorem dJ23_putVal_277 : decode cJ23_putVal 277 = .ok (.putfield 156, 3) := dk_181 0 156 (dk_at dksJ23_putVal_12 0 rfl rfl)
theorem dJ23_putVal_280 : decode cJ23_putVal 280 = .ok (.aload_n 0, 1) := dk_42 (dk_at dksJ23_putVal_12 3 rfl rfl)
theorem dJ23_putVal_281 : decode cJ23_putVal 281 = .ok (.getfield 88, 3) := dk_180 0 88 (dk_at dksJ23_putVal_12 4 rfl rfl)
theorem dJ23_putVal_284 : decode cJ23_putVal 284 = .ok (.if_icmp .le 8, 3) := dk_164 0 8 (dk_at dksJ23_putVal_12 7 rfl rfl)
theorem dJ23_putVal_287 : decode cJ23_putVal 287 = .ok (.aload_n 0, 1) := dk_42 (dk_at dksJ23_putVal_12 10 rfl rfl)
theorem dJ23_putVal_288 : decode cJ23_putVal 288 = .ok (.invokevirtual 117, 3) := dk_182 0 117 (dk_at dksJ23_putVal_12 11 rfl rfl)
theorem dJ23_putVal_291 : decode cJ23_putVal 291 = .ok (.pop, 1) := dk_87 (dk_at dksJ23_putVal_12 14 rfl rfl)
theorem dJ23_putVal_292 : decode cJ23_putVal 292 = .ok (.aload_n 0, 1) := dk_42 (dk_at dksJ23_putVal_12 15 rfl rfl)
theorem dJ23_putVal_293 : decode cJ23_putVal 293 = .ok (.iload 5, 2) := dk_21 5 (dk_at dksJ23_putVal_12 16 rfl rfl)
theorem dJ23_putVal_295 : decode cJ23_putVal 295 = .ok (.invokevirtual 205, 3) := dk_182 0 205 (dk_at dksJ23_putVal_12 18 rfl rfl)
theorem dJ23_putVal_298 : decode cJ23_putVal 298 = .ok (.aconst_null, 1) := dk_1 (dk_at dksJ23_putVal_12 21 rfl rfl)
theorem dJ23_putVal_299 : decode cJ23_putVal 299 = .ok (.areturn, 1) := dk_176 (dk_at dksJ23_putVal_12 22 rfl rfl)
abbrev cJ23_resize : ByteArray := prog_54_method_17_code
def yJ23_resize : MethodName := ⟨RJ23, "resize", "()[Ljava/util/HashMap$Node;"⟩
def dkwJ23_resize_15 : List UInt8 := [25, 6, 176]
abbrev dktJ23_resize_15 : List UInt8 := dkwJ23_resize_15 ++ []
def dkwJ23_resize_14 : List UInt8 := [198, 0, 18, 25, 12, 1, 181, 0, 177, 25, 6, 21, 7, 28, 96, 25, 11, 83, 132, 7, 1, 167, 255, 57]
abbrev dktJ23_resize_14 : List UInt8 := dkwJ23_resize_14 ++ dktJ23_resize_15
def dkwJ23_resize_13 : List UInt8 := [199, 255, 185, 25, 10, 198, 0, 16, 25, 10, 1, 181, 0, 177, 25, 6, 21, 7, 25, 9, 83, 25, 12]
abbrev dktJ23_resize_13 : List UInt8 := dkwJ23_resize_13 ++ dktJ23_resize_14
def dkwJ23_resize_12 : List UInt8 := [25, 8, 58, 11, 167, 0, 10, 25, 12, 25, 8, 181, 0, 177, 25, 8, 58, 12, 25, 13, 89, 58, 8]
abbrev dktJ23_resize_12 : List UInt8 := dkwJ23_resize_12 ++ dktJ23_resize_13
def dkwJ23_resize_11 : List UInt8 := [58, 9, 167, 0, 10, 25, 10, 25, 8, 181, 0, 177, 25, 8, 58, 10, 167, 0, 26, 25, 12, 199, 0, 10]
abbrev dktJ23_resize_11 : List UInt8 := dkwJ23_resize_11 ++ dktJ23_resize_12
def dkwJ23_resize_10 : List UInt8 := [25, 8, 180, 0, 177, 58, 13, 25, 8, 180, 0, 168, 28, 126, 154, 0, 29, 25, 10, 199, 0, 10, 25, 8]
abbrev dktJ23_resize_10 : List UInt8 := dkwJ23_resize_10 ++ dktJ23_resize_11
def dkwJ23_resize_9 : List UInt8 := [42, 25, 6, 21, 7, 28, 182, 0, 211, 167, 0, 127, 1, 58, 9, 1, 58, 10, 1, 58, 11, 1, 58, 12]
abbrev dktJ23_resize_9 : List UInt8 := dkwJ23_resize_9 ++ dktJ23_resize_10
def dkwJ23_resize_8 : List UInt8 := [21, 4, 4, 100, 126, 25, 8, 83, 167, 0, 152, 25, 8, 193, 0, 180, 153, 0, 20, 25, 8, 192, 0, 180]
abbrev dktJ23_resize_8 : List UInt8 := dkwJ23_resize_8 ++ dktJ23_resize_9
def dkwJ23_resize_7 : List UInt8 := [198, 0, 183, 43, 21, 7, 1, 83, 25, 8, 180, 0, 177, 199, 0, 21, 25, 6, 25, 8, 180, 0, 168]
abbrev dktJ23_resize_7 : List UInt8 := dkwJ23_resize_7 ++ dktJ23_resize_8
def dkwJ23_resize_6 : List UInt8 := [181, 0, 105, 43, 198, 0, 208, 3, 54, 7, 21, 7, 28, 162, 0, 199, 43, 21, 7, 50, 89, 58, 8]
abbrev dktJ23_resize_6 : List UInt8 := dkwJ23_resize_6 ++ dktJ23_resize_7
def dkwJ23_resize_5 : List UInt8 := [167, 0, 5, 18, 209, 54, 5, 42, 21, 5, 181, 0, 88, 21, 4, 189, 0, 163, 58, 6, 42, 25, 6]
abbrev dktJ23_resize_5 : List UInt8 := dkwJ23_resize_5 ++ dktJ23_resize_6
def dkwJ23_resize_4 : List UInt8 := [180, 0, 81, 106, 56, 6, 21, 4, 18, 42, 162, 0, 17, 23, 6, 18, 210, 150, 156, 0, 9, 23, 6, 139]
abbrev dktJ23_resize_4 : List UInt8 := dkwJ23_resize_4 ++ dktJ23_resize_5
def dkwJ23_resize_3 : List UInt8 := [54, 4, 167, 0, 11, 16, 16, 54, 4, 16, 12, 54, 5, 21, 5, 154, 0, 38, 21, 4, 134, 42]
abbrev dktJ23_resize_3 : List UInt8 := dkwJ23_resize_3 ++ dktJ23_resize_4
def dkwJ23_resize_2 : List UInt8 := [18, 42, 162, 0, 35, 28, 16, 16, 161, 0, 29, 29, 4, 120, 54, 5, 167, 0, 21, 29, 158, 0, 9, 29]
abbrev dktJ23_resize_2 : List UInt8 := dkwJ23_resize_2 ++ dktJ23_resize_3
def dkwJ23_resize_1 : List UInt8 := [28, 158, 0, 42, 28, 18, 42, 161, 0, 11, 42, 18, 209, 181, 0, 88, 43, 176, 28, 4, 120, 89, 54, 4]
abbrev dktJ23_resize_1 : List UInt8 := dkwJ23_resize_1 ++ dktJ23_resize_2
def dkwJ23_resize_0 : List UInt8 := [42, 180, 0, 105, 76, 43, 199, 0, 7, 3, 167, 0, 5, 43, 190, 61, 42, 180, 0, 88, 62, 3, 54, 5]
abbrev dktJ23_resize_0 : List UInt8 := dkwJ23_resize_0 ++ dktJ23_resize_1
theorem dksJ23_resize_0 : cJ23_resize.data.toList.drop 0 = dktJ23_resize_0 := by decide +kernel
theorem dksJ23_resize_1 : cJ23_resize.data.toList.drop 24 = dktJ23_resize_1 := dk_seg dksJ23_resize_0 24 rfl rfl
theorem dksJ23_resize_2 : cJ23_resize.data.toList.drop 48 = dktJ23_resize_2 := dk_seg dksJ23_resize_1 24 rfl rfl
theorem dksJ23_resize_3 : cJ23_resize.data.toList.drop 72 = dktJ23_resize_3 := dk_seg dksJ23_resize_2 24 rfl rfl
theorem dksJ23_resize_4 : cJ23_resize.data.toList.drop 94 = dktJ23_resize_4 := dk_seg dksJ23_resize_3 22 rfl rfl
theorem dksJ23_resize_5 : cJ23_resize.data.toList.drop 118 = dktJ23_resize_5 := dk_seg dksJ23_resize_4 24 rfl rfl
theorem dksJ23_resize_6 : cJ23_resize.data.toList.drop 141 = dktJ23_resize_6 := dk_seg dksJ23_resize_5 23 rfl rfl
theorem dksJ23_resize_7 : cJ23_resize.data.toList.drop 164 = dktJ23_resize_7 := dk_seg dksJ23_resize_6 23 rfl rfl
theorem dksJ23_resize_8 : cJ23_resize.data.toList.drop 187 = dktJ23_resize_8 := dk_seg dksJ23_resize_7 23 rfl rfl
theorem dksJ23_resize_9 : cJ23_resize.data.toList.drop 211 = dktJ23_resize_9 := dk_seg dksJ23_resize_8 24 rfl rfl
theorem dksJ23_resize_10 : cJ23_resize.data.toList.drop 235 = dktJ23_resize_10 := dk_seg dksJ23_resize_9 24 rfl rfl
theorem dksJ23_resize_11 : cJ23_resize.data.toList.drop 259 = dktJ23_resize_11 := dk_seg dksJ23_resize_10 24 rfl rfl
theorem dksJ23_resize_12 : cJ23_resize.data.toList.drop 283 = dktJ23_resize_12 := dk_seg dksJ23_resize_11 24 rfl rfl
theorem dksJ23_resize_13 : cJ23_resize.data.toList.drop 306 = dktJ23_resize_13 := dk_seg dksJ23_resize_12 23 rfl rfl
theorem dksJ23_resize_14 : cJ23_resize.data.toList.drop 329 = dktJ23_resize_14 := dk_seg dksJ23_resize_13 23 rfl rfl
theorem dksJ23_resize_15 : cJ23_resize.data.toList.drop 353 = dktJ23_resize_15 := dk_seg dksJ23_resize_14 24 rfl rfl
theorem dJ23_resize_0 : decode cJ23_resize 0 = .ok (.aload_n 0, 1) := dk_42 (dk_at dksJ23_resize_0 0 rfl rfl)
theorem dJ23_resize_1 : decode cJ23_resize 1 = .ok (.getfield 105, 3) := dk_180 0 105 (dk_at dksJ23_resize_0 1 rfl rfl)
theorem dJ23_resize_4 : decode cJ23_resize 4 = .ok (.astore_n 1, 1) := dk_76 (dk_at dksJ23_resize_0 4 rfl rfl)
theorem dJ23_resize_5 : decode cJ23_resize 5 = .ok (.aload_n 1, 1) := dk_43 (dk_at dksJ23_resize_0 5 rfl rfl)
theorem dJ23_resize_6 : decode cJ23_resize 6 = .ok (.ifnonnull 7, 3) := dk_199 0 7 (dk_at dksJ23_resize_0 6 rfl rfl)
theorem dJ23_resize_9 : decode cJ23_resize 9 = .ok (.iconst 0, 1) := dk_3 (dk_at dksJ23_resize_0 9 rfl rfl)
theorem dJ23_resize_10 : decode cJ23_resize 10 = .ok (.goto 5, 3) := dk_167 0 5 (dk_at dksJ23_resize_0 10 rfl rfl)
theorem dJ23_resize_13 : decode cJ23_resize 13 = .ok (.aload_n 1, 1) := dk_43 (dk_at dksJ23_resize_0 13 rfl rfl)
theorem dJ23_resize_14 : decode cJ23_resize 14 = .ok (.arraylength, 1) := dk_190 (dk_at dksJ23_resize_0 14 rfl rfl)
theorem dJ23_resize_15 : decode cJ23_resize 15 = .ok (.istore_n 2, 1) := dk_61 (dk_at dksJ23_resize_0 15 rfl rfl)
theorem dJ23_resize_16 : decode cJ23_resize 16 = .ok (.aload_n 0, 1) := dk_42 (dk_at dksJ23_resize_0 16 rfl rfl)
theorem dJ23_resize_17 : decode cJ23_resize 17 = .ok (.getfield 88, 3) := dk_180 0 88 (dk_at dksJ23_resize_0 17 rfl rfl)
theorem dJ23_resize_20 : decode cJ23_resize 20 = .ok (.istore_n 3, 1) := dk_62 (dk_at dksJ23_resize_0 20 rfl rfl)
theorem dJ23_resize_21 : decode cJ23_resize 21 = .ok (.iconst 0, 1) := dk_3 (dk_at dksJ23_resize_0 21 rfl rfl)
theorem dJ23_resize_22 : decode cJ23_resize 22 = .ok (.istore 5, 2) := dk_54 5 (dk_at dksJ23_resize_0 22 rfl rfl)
theorem dJ23_resize_24 : decode cJ23_resize 24 = .ok (.iload_n 2, 1) := dk_28 (dk_at dksJ23_resize_1 0 rfl rfl)
theorem dJ23_resize_25 : decode cJ23_resize 25 = .ok (.ifCond .le 42, 3) := dk_158 0 42 (dk_at dksJ23_resize_1 1 rfl rfl)
theorem dJ23_resize_28 : decode cJ23_resize 28 = .ok (.iload_n 2, 1) := dk_28 (dk_at dksJ23_resize_1 4 rfl rfl)
theorem dJ23_resize_29 : decode cJ23_resize 29 = .ok (.ldc 42, 2) := dk_18 42 (dk_at dksJ23_resize_1 5 rfl rfl)
theorem dJ23_resize_31 : decode cJ23_resize 31 = .ok (.if_icmp .lt 11, 3) := dk_161 0 11 (dk_at dksJ23_resize_1 7 rfl rfl)
theorem dJ23_resize_34 : decode cJ23_resize 34 = .ok (.aload_n 0, 1) := dk_42 (dk_at dksJ23_resize_1 10 rfl rfl)
theorem dJ23_resize_35 : decode cJ23_resize 35 = .ok (.ldc 209, 2) := dk_18 209 (dk_at dksJ23_resize_1 11 rfl rfl)
theorem dJ23_resize_37 : decode cJ23_resize 37 = .ok (.putfield 88, 3) := dk_181 0 88 (dk_at dksJ23_resize_1 13 rfl rfl)
theorem dJ23_resize_40 : decode cJ23_resize 40 = .ok (.aload_n 1, 1) := dk_43 (dk_at dksJ23_resize_1 16 rfl rfl)
theorem dJ23_resize_41 : decode cJ23_resize 41 = .ok (.areturn, 1) := dk_176 (dk_at dksJ23_resize_1 17 rfl rfl)
theorem dJ23_resize_42 : decode cJ23_resize 42 = .ok (.iload_n 2, 1) := dk_28 (dk_at dksJ23_resize_1 18 rfl rfl)
theorem dJ23_resize_43 : decode cJ23_resize 43 = .ok (.iconst 1, 1) := dk_4 (dk_at dksJ23_resize_1 19 rfl rfl)
theorem dJ23_resize_44 : decode cJ23_resize 44 = .ok (.ishl, 1) := dk_120 (dk_at dksJ23_resize_1 20 rfl rfl)
theorem dJ23_resize_45 : decode cJ23_resize 45 = .ok (.dup, 1) := dk_89 (dk_at dksJ23_resize_1 21 rfl rfl)
theorem dJ23_resize_46 : decode cJ23_resize 46 = .ok (.istore 4, 2) := dk_54 4 (dk_at dksJ23_resize_1 22 rfl rfl)
theorem dJ23_resize_48 : decode cJ23_resize 48 = .ok (.ldc 42, 2) := dk_18 42 (dk_at dksJ23_resize_2 0 rfl rfl)
theorem dJ23_resize_50 : decode cJ23_resize 50 = .ok (.if_icmp .ge 35, 3) := dk_162 0 35 (dk_at dksJ23_resize_2 2 rfl rfl)
theorem dJ23_resize_53 : decode cJ23_resize 53 = .ok (.iload_n 2, 1) := dk_28 (dk_at dksJ23_resize_2 5 rfl rfl)
theorem dJ23_resize_54 : decode cJ23_resize 54 = .ok (.bipush 16, 2) := dk_16 16 (dk_at dksJ23_resize_2 6 rfl rfl)
theorem dJ23_resize_56 : decode cJ23_resize 56 = .ok (.if_icmp .lt 29, 3) := dk_161 0 29 (dk_at dksJ23_resize_2 8 rfl rfl)
theorem dJ23_resize_59 : decode cJ23_resize 59 = .ok (.iload_n 3, 1) := dk_29 (dk_at dksJ23_resize_2 11 rfl rfl)
theorem dJ23_resize_60 : decode cJ23_resize 60 = .ok (.iconst 1, 1) := dk_4 (dk_at dksJ23_resize_2 12 rfl rfl)
theorem dJ23_resize_61 : decode cJ23_resize 61 = .ok (.ishl, 1) := dk_120 (dk_at dksJ23_resize_2 13 rfl rfl)
theorem dJ23_resize_62 : decode cJ23_resize 62 = .ok (.istore 5, 2) := dk_54 5 (dk_at dksJ23_resize_2 14 rfl rfl)
theorem dJ23_resize_64 : decode cJ23_resize 64 = .ok (.goto 21, 3) := dk_167 0 21 (dk_at dksJ23_resize_2 16 rfl rfl)
theorem dJ23_resize_67 : decode cJ23_resize 67 = .ok (.iload_n 3, 1) := dk_29 (dk_at dksJ23_resize_2 19 rfl rfl)
theorem dJ23_resize_68 : decode cJ23_resize 68 = .ok (.ifCond .le 9, 3) := dk_158 0 9 (dk_at dksJ23_resize_2 20 rfl rfl)
theorem dJ23_resize_71 : decode cJ23_resize 71 = .ok (.iload_n 3, 1) := dk_29 (dk_at dksJ23_resize_2 23 rfl rfl)
theorem dJ23_resize_72 : decode cJ23_resize 72 = .ok (.istore 4, 2) := dk_54 4 (dk_at dksJ23_resize_3 0 rfl rfl)
theorem dJ23_resize_74 : decode cJ23_resize 74 = .ok (.goto 11, 3) := dk_167 0 11 (dk_at dksJ23_resize_3 2 rfl rfl)
theorem dJ23_resize_77 : decode cJ23_resize 77 = .ok (.bipush 16, 2) := dk_16 16 (dk_at dksJ23_resize_3 5 rfl rfl)
theorem dJ23_resize_79 : decode cJ23_resize 79 = .ok (.istore 4, 2) := dk_54 4 (dk_at dksJ23_resize_3 7 rfl rfl)
theorem dJ23_resize_81 : decode cJ23_resize 81 = .ok (.bipush 12, 2) := dk_16 12 (dk_at dksJ23_resize_3 9 rfl rfl)
theorem dJ23_resize_83 : decode cJ23_resize 83 = .ok (.istore 5, 2) := dk_54 5 (dk_at dksJ23_resize_3 11 rfl rfl)
theorem dJ23_resize_85 : decode cJ23_resize 85 = .ok (.iload 5, 2) := dk_21 5 (dk_at dksJ23_resize_3 13 rfl rfl)
theorem dJ23_resize_87 : decode cJ23_resize 87 = .ok (.ifCond .ne 38, 3) := dk_154 0 38 (dk_at dksJ23_resize_3 15 rfl rfl)
theorem dJ23_resize_90 : decode cJ23_resize 90 = .ok (.iload 4, 2) := dk_21 4 (dk_at dksJ23_resize_3 18 rfl rfl)
theorem dJ23_resize_92 : decode cJ23_resize 92 = .ok (.i2f, 1) := dk_134 (dk_at dksJ23_resize_3 20 rfl rfl)
theorem dJ23_resize_93 : decode cJ23_resize 93 = .ok (.aload_n 0, 1) := dk_42 (dk_at dksJ23_resize_3 21 rfl rfl)
theorem dJ23_resize_94 : decode cJ23_resize 94 = .ok (.getfield 81, 3) := dk_180 0 81 (dk_at dksJ23_resize_4 0 rfl rfl)
theorem dJ23_resize_97 : decode cJ23_resize 97 = .ok (.fmul, 1) := dk_106 (dk_at dksJ23_resize_4 3 rfl rfl)
theorem dJ23_resize_98 : decode cJ23_resize 98 = .ok (.fstore 6, 2) := dk_56 6 (dk_at dksJ23_resize_4 4 rfl rfl)
theorem dJ23_resize_100 : decode cJ23_resize 100 = .ok (.iload 4, 2) := dk_21 4 (dk_at dksJ23_resize_4 6 rfl rfl)
theorem dJ23_resize_102 : decode cJ23_resize 102 = .ok (.ldc 42, 2) := dk_18 42 (dk_at dksJ23_resize_4 8 rfl rfl)
theorem dJ23_resize_104 : decode cJ23_resize 104 = .ok (.if_icmp .ge 17, 3) := dk_162 0 17 (dk_at dksJ23_resize_4 10 rfl rfl)
theorem dJ23_resize_107 : decode cJ23_resize 107 = .ok (.fload 6, 2) := dk_23 6 (dk_at dksJ23_resize_4 13 rfl rfl)
theorem dJ23_resize_109 : decode cJ23_resize 109 = .ok (.ldc 210, 2) := dk_18 210 (dk_at dksJ23_resize_4 15 rfl rfl)
theorem dJ23_resize_111 : decode cJ23_resize 111 = .ok (.fcmp .g, 1) := dk_150 (dk_at dksJ23_resize_4 17 rfl rfl)
theorem dJ23_resize_112 : decode cJ23_resize 112 = .ok (.ifCond .ge 9, 3) := dk_156 0 9 (dk_at dksJ23_resize_4 18 rfl rfl)
theorem dJ23_resize_115 : decode cJ23_resize 115 = .ok (.fload 6, 2) := dk_23 6 (dk_at dksJ23_resize_4 21 rfl rfl)
theorem dJ23_resize_117 : decode cJ23_resize 117 = .ok (.f2i, 1) := dk_139 (dk_at dksJ23_resize_4 23 rfl rfl)
theorem dJ23_resize_118 : decode cJ23_resize 118 = .ok (.goto 5, 3) := dk_167 0 5 (dk_at dksJ23_resize_5 0 rfl rfl)
theorem dJ23_resize_121 : decode cJ23_resize 121 = .ok (.ldc 209, 2) := dk_18 209 (dk_at dksJ23_resize_5 3 rfl rfl)
theorem dJ23_resize_123 : decode cJ23_resize 123 = .ok (.istore 5, 2) := dk_54 5 (dk_at dksJ23_resize_5 5 rfl rfl)
theorem dJ23_resize_125 : decode cJ23_resize 125 = .ok (.aload_n 0, 1) := dk_42 (dk_at dksJ23_resize_5 7 rfl rfl)
theorem dJ23_resize_126 : decode cJ23_resize 126 = .ok (.iload 5, 2) := dk_21 5 (dk_at dksJ23_resize_5 8 rfl rfl)
theorem dJ23_resize_128 : decode cJ23_resize 128 = .ok (.putfield 88, 3) := dk_181 0 88 (dk_at dksJ23_resize_5 10 rfl rfl)
theorem dJ23_resize_131 : decode cJ23_resize 131 = .ok (.iload 4, 2) := dk_21 4 (dk_at dksJ23_resize_5 13 rfl rfl)
theorem dJ23_resize_133 : decode cJ23_resize 133 = .ok (.anewarray 163, 3) := dk_189 0 163 (dk_at dksJ23_resize_5 15 rfl rfl)
theorem dJ23_resize_136 : decode cJ23_resize 136 = .ok (.astore 6, 2) := dk_58 6 (dk_at dksJ23_resize_5 18 rfl rfl)
theorem dJ23_resize_138 : decode cJ23_resize 138 = .ok (.aload_n 0, 1) := dk_42 (dk_at dksJ23_resize_5 20 rfl rfl)
theorem dJ23_resize_139 : decode cJ23_resize 139 = .ok (.aload 6, 2) := dk_25 6 (dk_at dksJ23_resize_5 21 rfl rfl)
theorem dJ23_resize_141 : decode cJ23_resize 141 = .ok (.putfield 105, 3) := dk_181 0 105 (dk_at dksJ23_resize_6 0 rfl rfl)
theorem dJ23_resize_144 : decode cJ23_resize 144 = .ok (.aload_n 1, 1) := dk_43 (dk_at dksJ23_resize_6 3 rfl rfl)
theorem dJ23_resize_145 : decode cJ23_resize 145 = .ok (.ifnull 208, 3) := dk_198 0 208 (dk_at dksJ23_resize_6 4 rfl rfl)
theorem dJ23_resize_148 : decode cJ23_resize 148 = .ok (.iconst 0, 1) := dk_3 (dk_at dksJ23_resize_6 7 rfl rfl)
theorem dJ23_resize_149 : decode cJ23_resize 149 = .ok (.istore 7, 2) := dk_54 7 (dk_at dksJ23_resize_6 8 rfl rfl)
theorem dJ23_resize_151 : decode cJ23_resize 151 = .ok (.iload 7, 2) := dk_21 7 (dk_at dksJ23_resize_6 10 rfl rfl)
theorem dJ23_resize_153 : decode cJ23_resize 153 = .ok (.iload_n 2, 1) := dk_28 (dk_at dksJ23_resize_6 12 rfl rfl)
theorem dJ23_resize_154 : decode cJ23_resize 154 = .ok (.if_icmp .ge 199, 3) := dk_162 0 199 (dk_at dksJ23_resize_6 13 rfl rfl)
theorem dJ23_resize_157 : decode cJ23_resize 157 = .ok (.aload_n 1, 1) := dk_43 (dk_at dksJ23_resize_6 16 rfl rfl)
theorem dJ23_resize_158 : decode cJ23_resize 158 = .ok (.iload 7, 2) := dk_21 7 (dk_at dksJ23_resize_6 17 rfl rfl)
theorem dJ23_resize_160 : decode cJ23_resize 160 = .ok (.aaload, 1) := dk_50 (dk_at dksJ23_resize_6 19 rfl rfl)
theorem dJ23_resize_161 : decode cJ23_resize 161 = .ok (.dup, 1) := dk_89 (dk_at dksJ23_resize_6 20 rfl rfl)
theorem dJ23_resize_162 : decode cJ23_resize 162 = .ok (.astore 8, 2) := dk_58 8 (dk_at dksJ23_resize_6 21 rfl rfl)
theorem dJ23_resize_164 : decode cJ23_resize 164 = .ok (.ifnull 183, 3) := dk_198 0 183 (dk_at dksJ23_resize_7 0 rfl rfl)
theorem dJ23_resize_167 : decode cJ23_resize 167 = .ok (.aload_n 1, 1) := dk_43 (dk_at dksJ23_resize_7 3 rfl rfl)
theorem dJ23_resize_168 : decode cJ23_resize 168 = .ok (.iload 7, 2) := dk_21 7 (dk_at dksJ23_resize_7 4 rfl rfl)
theorem dJ23_resize_170 : decode cJ23_resize 170 = .ok (.aconst_null, 1) := dk_1 (dk_at dksJ23_resize_7 6 rfl rfl)
theorem dJ23_resize_171 : decode cJ23_resize 171 = .ok (.aastore, 1) := dk_83 (dk_at dksJ23_resize_7 7 rfl rfl)
theorem dJ23_resize_172 : decode cJ23_resize 172 = .ok (.aload 8, 2) := dk_25 8 (dk_at dksJ23_resize_7 8 rfl rfl)
theorem dJ23_resize_174 : decode cJ23_resize 174 = .ok (.getfield 177, 3) := dk_180 0 177 (dk_at dksJ23_resize_7 10 rfl rfl)
theorem dJ23_resize_177 : decode cJ23_resize 177 = .ok (.ifnonnull 21, 3) := dk_199 0 21 (dk_at dksJ23_resize_7 13 rfl rfl)
theorem dJ23_resize_180 : decode cJ23_resize 180 = .ok (.aload 6, 2) := dk_25 6 (dk_at dksJ23_resize_7 16 rfl rfl)
theorem dJ23_resize_182 : decode cJ23_resize 182 = .ok (.aload 8, 2) := dk_25 8 (dk_at dksJ23_resize_7 18 rfl rfl)
theorem dJ23_resize_184 : decode cJ23_resize 184 = .ok (.getfield 168, 3) := dk_180 0 168 (dk_at dksJ23_resize_7 20 rfl rfl)
theorem dJ23_resize_187 : decode cJ23_resize 187 = .ok (.iload 4, 2) := dk_21 4 (dk_at dksJ23_resize_8 0 rfl rfl)
theorem dJ23_resize_189 : decode cJ23_resize 189 = .ok (.iconst 1, 1) := dk_4 (dk_at dksJ23_resize_8 2 rfl rfl)
theorem dJ23_resize_190 : decode cJ23_resize 190 = .ok (.isub, 1) := dk_100 (dk_at dksJ23_resize_8 3 rfl rfl)
theorem dJ23_resize_191 : decode cJ23_resize 191 = .ok (.iand, 1) := dk_126 (dk_at dksJ23_resize_8 4 rfl rfl)
theorem dJ23_resize_192 : decode cJ23_resize 192 = .ok (.aload 8, 2) := dk_25 8 (dk_at dksJ23_resize_8 5 rfl rfl)
theorem dJ23_resize_194 : decode cJ23_resize 194 = .ok (.aastore, 1) := dk_83 (dk_at dksJ23_resize_8 7 rfl rfl)
theorem dJ23_resize_195 : decode cJ23_resize 195 = .ok (.goto 152, 3) := dk_167 0 152 (dk_at dksJ23_resize_8 8 rfl rfl)
theorem dJ23_resize_198 : decode cJ23_resize 198 = .ok (.aload 8, 2) := dk_25 8 (dk_at dksJ23_resize_8 11 rfl rfl)
theorem dJ23_resize_200 : decode cJ23_resize 200 = .ok (.instanceof 180, 3) := dk_193 0 180 (dk_at dksJ23_resize_8 13 rfl rfl)
theorem dJ23_resize_203 : decode cJ23_resize 203 = .ok (.ifCond .eq 20, 3) := dk_153 0 20 (dk_at dksJ23_resize_8 16 rfl rfl)
theorem dJ23_resize_206 : decode cJ23_resize 206 = .ok (.aload 8, 2) := dk_25 8 (dk_at dksJ23_resize_8 19 rfl rfl)
theorem dJ23_resize_208 : decode cJ23_resize 208 = .ok (.checkcast 180, 3) := dk_192 0 180 (dk_at dksJ23_resize_8 21 rfl rfl)
theorem dJ23_resize_211 : decode cJ23_resize 211 = .ok (.aload_n 0, 1) := dk_42 (dk_at dksJ23_resize_9 0 rfl rfl)
theorem dJ23_resize_212 : decode cJ23_resize 212 = .ok (.aload 6, 2) := dk_25 6 (dk_at dksJ23_resize_9 1 rfl rfl)
theorem dJ23_resize_214 : decode cJ23_resize 214 = .ok (.iload 7, 2) := dk_21 7 (dk_at dksJ23_resize_9 3 rfl rfl)
theorem dJ23_resize_216 : decode cJ23_resize 216 = .ok (.iload_n 2, 1) := dk_28 (dk_at dksJ23_resize_9 5 rfl rfl)
theorem dJ23_resize_217 : decode cJ23_resize 217 = .ok (.invokevirtual 211, 3) := dk_182 0 211 (dk_at dksJ23_resize_9 6 rfl rfl)
theorem dJ23_resize_220 : decode cJ23_resize 220 = .ok (.goto 127, 3) := dk_167 0 127 (dk_at dksJ23_resize_9 9 rfl rfl)
theorem dJ23_resize_223 : decode cJ23_resize 223 = .ok (.aconst_null, 1) := dk_1 (dk_at dksJ23_resize_9 12 rfl rfl)
theorem dJ23_resize_224 : decode cJ23_resize 224 = .ok (.astore 9, 2) := dk_58 9 (dk_at dksJ23_resize_9 13 rfl rfl)
theorem dJ23_resize_226 : decode cJ23_resize 226 = .ok (.aconst_null, 1) := dk_1 (dk_at dksJ23_resize_9 15 rfl rfl)
theorem dJ23_resize_227 : decode cJ23_resize 227 = .ok (.astore 10, 2) := dk_58 10 (dk_at dksJ23_resize_9 16 rfl rfl)
theorem dJ23_resize_229 : decode cJ23_resize 229 = .ok (.aconst_null, 1) := dk_1 (dk_at dksJ23_resize_9 18 rfl rfl)
theorem dJ23_resize_230 : decode cJ23_resize 230 = .ok (.astore 11, 2) := dk_58 11 (dk_at dksJ23_resize_9 19 rfl rfl)
theorem dJ23_resize_232 : decode cJ23_resize 232 = .ok (.aconst_null, 1) := dk_1 (dk_at dksJ23_resize_9 21 rfl rfl)
theorem dJ23_resize_233 : decode cJ23_resize 233 = .ok (.astore 12, 2) := dk_58 12 (dk_at dksJ23_resize_9 22 rfl rfl)
theorem dJ23_resize_235 : decode cJ23_resize 235 = .ok (.aload 8, 2) := dk_25 8 (dk_at dksJ23_resize_10 0 rfl rfl)
theorem dJ23_resize_237 : decode cJ23_resize 237 = .ok (.getfield 177, 3) := dk_180 0 177 (dk_at dksJ23_resize_10 2 rfl rfl)
theorem dJ23_resize_240 : decode cJ23_resize 240 = .ok (.astore 13, 2) := dk_58 13 (dk_at dksJ23_resize_10 5 rfl rfl)
theorem dJ23_resize_242 : decode cJ23_resize 242 = .ok (.aload 8, 2) := dk_25 8 (dk_at dksJ23_resize_10 7 rfl rfl)
theorem dJ23_resize_244 : decode cJ23_resize 244 = .ok (.getfield 168, 3) := dk_180 0 168 (dk_at dksJ23_resize_10 9 rfl rfl)
theorem dJ23_resize_247 : decode cJ23_resize 247 = .ok (.iload_n 2, 1) := dk_28 (dk_at dksJ23_resize_10 12 rfl rfl)
theorem dJ23_resize_248 : decode cJ23_resize 248 = .ok (.iand, 1) := dk_126 (dk_at dksJ23_resize_10 13 rfl rfl)
theorem dJ23_resize_249 : decode cJ23_resize 249 = .ok (.ifCond .ne 29, 3) := dk_154 0 29 (dk_at dksJ23_resize_10 14 rfl rfl)
theorem dJ23_resize_252 : decode cJ23_resize 252 = .ok (.aload 10, 2) := dk_25 10 (dk_at dksJ23_resize_10 17 rfl rfl)
theorem dJ23_resize_254 : decode cJ23_resize 254 = .ok (.ifnonnull 10, 3) := dk_199 0 10 (dk_at dksJ23_resize_10 19 rfl rfl)
theorem dJ23_resize_257 : decode cJ23_resize 257 = .ok (.aload 8, 2) := dk_25 8 (dk_at dksJ23_resize_10 22 rfl rfl)
theorem dJ23_resize_259 : decode cJ23_resize 259 = .ok (.astore 9, 2) := dk_58 9 (dk_at dksJ23_resize_11 0 rfl rfl)
theorem dJ23_resize_261 : decode cJ23_resize 261 = .ok (.goto 10, 3) := dk_167 0 10 (dk_at dksJ23_resize_11 2 rfl rfl)
theorem dJ23_resize_264 : decode cJ23_resize 264 = .ok (.aload 10, 2) := dk_25 10 (dk_at dksJ23_resize_11 5 rfl rfl)
theorem dJ23_resize_266 : decode cJ23_resize 266 = .ok (.aload 8, 2) := dk_25 8 (dk_at dksJ23_resize_11 7 rfl rfl)
theorem dJ23_resize_268 : decode cJ23_resize 268 = .ok (.putfield 177, 3) := dk_181 0 177 (dk_at dksJ23_resize_11 9 rfl rfl)
theorem dJ23_resize_271 : decode cJ23_resize 271 = .ok (.aload 8, 2) := dk_25 8 (dk_at dksJ23_resize_11 12 rfl rfl)
theorem dJ23_resize_273 : decode cJ23_resize 273 = .ok (.astore 10, 2) := dk_58 10 (dk_at dksJ23_resize_11 14 rfl rfl)
theorem dJ23_resize_275 : decode cJ23_resize 275 = .ok (.goto 26, 3) := dk_167 0 26 (dk_at dksJ23_resize_11 16 rfl rfl)
theorem dJ23_resize_278 : decode cJ23_resize 278 = .ok (.aload 12, 2) := dk_25 12 (dk_at dksJ23_resize_11 19 rfl rfl)
theorem dJ23_resize_280 : decode cJ23_resize 280 = .ok (.ifnonnull 10, 3) := dk_199 0 10 (dk_at dksJ23_resize_11 21 rfl rfl)
theorem dJ23_resize_283 : decode cJ23_resize 283 = .ok (.aload 8, 2) := dk_25 8 (dk_at dksJ23_resize_12 0 rfl rfl)
theorem dJ23_resize_285 : decode cJ23_resize 285 = .ok (.astore 11, 2) := dk_58 11 (dk_at dksJ23_resize_12 2 rfl rfl)
theorem dJ23_resize_287 : decode cJ23_resize 287 = .ok (.goto 10, 3) := dk_167 0 10 (dk_at dksJ23_resize_12 4 rfl rfl)
theorem dJ23_resize_290 : decode cJ23_resize 290 = .ok (.aload 12, 2) := dk_25 12 (dk_at dksJ23_resize_12 7 rfl rfl)
theorem dJ23_resize_292 : decode cJ23_resize 292 = .ok (.aload 8, 2) := dk_25 8 (dk_at dksJ23_resize_12 9 rfl rfl)
theorem dJ23_resize_294 : decode cJ23_resize 294 = .ok (.putfield 177, 3) := dk_181 0 177 (dk_at dksJ23_resize_12 11 rfl rfl)
theorem dJ23_resize_297 : decode cJ23_resize 297 = .ok (.aload 8, 2) := dk_25 8 (dk_at dksJ23_resize_12 14 rfl rfl)
theorem dJ23_resize_299 : decode cJ23_resize 299 = .ok (.astore 12, 2) := dk_58 12 (dk_at dksJ23_resize_12 16 rfl rfl)
theorem dJ23_resize_301 : decode cJ23_resize 301 = .ok (.aload 13, 2) := dk_25 13 (dk_at dksJ23_resize_12 18 rfl rfl)
theorem dJ23_resize_303 : decode cJ23_resize 303 = .ok (.dup, 1) := dk_89 (dk_at dksJ23_resize_12 20 rfl rfl)
theorem dJ23_resize_304 : decode cJ23_resize 304 = .ok (.astore 8, 2) := dk_58 8 (dk_at dksJ23_resize_12 21 rfl rfl)
theorem dJ23_resize_306 : decode cJ23_resize 306 = .ok (.ifnonnull (-71), 3) := dk_199 255 185 (dk_at dksJ23_resize_13 0 rfl rfl)
theorem dJ23_resize_309 : decode cJ23_resize 309 = .ok (.aload 10, 2) := dk_25 10 (dk_at dksJ23_resize_13 3 rfl rfl)
theorem dJ23_resize_311 : decode cJ23_resize 311 = .ok (.ifnull 16, 3) := dk_198 0 16 (dk_at dksJ23_resize_13 5 rfl rfl)
theorem dJ23_resize_314 : decode cJ23_resize 314 = .ok (.aload 10, 2) := dk_25 10 (dk_at dksJ23_resize_13 8 rfl rfl)
theorem dJ23_resize_316 : decode cJ23_resize 316 = .ok (.aconst_null, 1) := dk_1 (dk_at dksJ23_resize_13 10 rfl rfl)
theorem dJ23_resize_317 : decode cJ23_resize 317 = .ok (.putfield 177, 3) := dk_181 0 177 (dk_at dksJ23_resize_13 11 rfl rfl)
theorem dJ23_resize_320 : decode cJ23_resize 320 = .ok (.aload 6, 2) := dk_25 6 (dk_at dksJ23_resize_13 14 rfl rfl)
theorem dJ23_resize_322 : decode cJ23_resize 322 = .ok (.iload 7, 2) := dk_21 7 (dk_at dksJ23_resize_13 16 rfl rfl)
theorem dJ23_resize_324 : decode cJ23_resize 324 = .ok (.aload 9, 2) := dk_25 9 (dk_at dksJ23_resize_13 18 rfl rfl)
theorem dJ23_resize_326 : decode cJ23_resize 326 = .ok (.aastore, 1) := dk_83 (dk_at dksJ23_resize_13 20 rfl rfl)
theorem dJ23_resize_327 : decode cJ23_resize 327 = .ok (.aload 12, 2) := dk_25 12 (dk_at dksJ23_resize_13 21 rfl rfl)
theorem dJ23_resize_329 : decode cJ23_resize 329 = .ok (.ifnull 18, 3) := dk_198 0 18 (dk_at dksJ23_resize_14 0 rfl rfl)
theorem dJ23_resize_332 : decode cJ23_resize 332 = .ok (.aload 12, 2) := dk_25 12 (dk_at dksJ23_resize_14 3 rfl rfl)
theorem dJ23_resize_334 : decode cJ23_resize 334 = .ok (.aconst_null, 1) := dk_1 (dk_at dksJ23_resize_14 5 rfl rfl)
theorem dJ23_resize_335 : decode cJ23_resize 335 = .ok (.putfield 177, 3) := dk_181 0 177 (dk_at dksJ23_resize_14 6 rfl rfl)
theorem dJ23_resize_338 : decode cJ23_resize 338 = .ok (.aload 6, 2) := dk_25 6 (dk_at dksJ23_resize_14 9 rfl rfl)
theorem dJ23_resize_340 : decode cJ23_resize 340 = .ok (.iload 7, 2) := dk_21 7 (dk_at dksJ23_resize_14 11 rfl rfl)
theorem dJ23_resize_342 : decode cJ23_resize 342 = .ok (.iload_n 2, 1) := dk_28 (dk_at dksJ23_resize_14 13 rfl rfl)
theorem dJ23_resize_343 : decode cJ23_resize 343 = .ok (.iadd, 1) := dk_96 (dk_at dksJ23_resize_14 14 rfl rfl)
theorem dJ23_resize_344 : decode cJ23_resize 344 = .ok (.aload 11, 2) := dk_25 11 (dk_at dksJ23_resize_14 15 rfl rfl)
theorem dJ23_resize_346 : decode cJ23_resize 346 = .ok (.aastore, 1) := dk_83 (dk_at dksJ23_resize_14 17 rfl rfl)
theorem dJ23_resize_347 : decode cJ23_resize 347 = .ok (.iinc 7 1, 3) := dk_132 7 1 (dk_at dksJ23_resize_14 18 rfl rfl)
theorem dJ23_resize_350 : decode cJ23_resize 350 = .ok (.goto (-199), 3) := dk_167 255 57 (dk_at dksJ23_resize_14 21 rfl rfl)
theorem dJ23_resize_353 : decode cJ23_resize 353 = .ok (.aload 6, 2) := dk_25 6 (dk_at dksJ23_resize_15 0 rfl rfl)
theorem dJ23_resize_355 : decode cJ23_resize 355 = .ok (.areturn, 1) := dk_176 (dk_at dksJ23_resize_15 2 rfl rfl)
abbrev cJ23_replacementNode : ByteArray := prog_54_method_47_code
def yJ23_replacementNode : MethodName := ⟨RJ23, "replacementNode", "(Ljava/util/HashMap$Node;Ljava/util/HashMap$Node;)Ljava/util/HashMap$Node;"⟩
def dkwJ23_replacementNode_0 : List UInt8 := [187, 0, 163, 89, 43, 180, 0, 168, 43, 180, 0, 170, 43, 180, 0, 162, 44, 183, 1, 119, 176]
abbrev dktJ23_replacementNode_0 : List UInt8 := dkwJ23_replacementNode_0 ++ []
theorem dksJ23_replacementNode_0 : cJ23_replacementNode.data.toList.drop 0 = dktJ23_replacementNode_0 := by decide +kernel
theorem dJ23_replacementNode_0 : decode cJ23_replacementNode 0 = .ok (.new 163, 3) := dk_187 0 163 (dk_at dksJ23_replacementNode_0 0 rfl rfl)
theorem dJ23_replacementNode_3 : decode cJ23_replacementNode 3 = .ok (.dup, 1) := dk_89 (dk_at dksJ23_replacementNode_0 3 rfl rfl)
theorem dJ23_replacementNode_4 : decode cJ23_replacementNode 4 = .ok (.aload_n 1, 1) := dk_43 (dk_at dksJ23_replacementNode_0 4 rfl rfl)
theorem dJ23_replacementNode_5 : decode cJ23_replacementNode 5 = .ok (.getfield 168, 3) := dk_180 0 168 (dk_at dksJ23_replacementNode_0 5 rfl rfl)
theorem dJ23_replacementNode_8 : decode cJ23_replacementNode 8 = .ok (.aload_n 1, 1) := dk_43 (dk_at dksJ23_replacementNode_0 8 rfl rfl)
theorem dJ23_replacementNode_9 : decode cJ23_replacementNode 9 = .ok (.getfield 170, 3) := dk_180 0 170 (dk_at dksJ23_replacementNode_0 9 rfl rfl)
theorem dJ23_replacementNode_12 : decode cJ23_replacementNode 12 = .ok (.aload_n 1, 1) := dk_43 (dk_at dksJ23_replacementNode_0 12 rfl rfl)
theorem dJ23_replacementNode_13 : decode cJ23_replacementNode 13 = .ok (.getfield 162, 3) := dk_180 0 162 (dk_at dksJ23_replacementNode_0 13 rfl rfl)
theorem dJ23_replacementNode_16 : decode cJ23_replacementNode 16 = .ok (.aload_n 2, 1) := dk_44 (dk_at dksJ23_replacementNode_0 16 rfl rfl)
theorem dJ23_replacementNode_17 : decode cJ23_replacementNode 17 = .ok (.invokespecial 375, 3) := dk_183 1 119 (dk_at dksJ23_replacementNode_0 17 rfl rfl)
theorem dJ23_replacementNode_20 : decode cJ23_replacementNode 20 = .ok (.areturn, 1) := dk_176 (dk_at dksJ23_replacementNode_0 20 rfl rfl)
abbrev cJ23_comparableClassFor : ByteArray := prog_54_method_2_code
def yJ23_comparableClassFor : MethodName := ⟨RJ23, "comparableClassFor", "(Ljava/lang/Object;)Ljava/lang/Class;"⟩
def dkwJ23_comparableClassFor_4 : List UInt8 := [4, 160, 0, 12, 45, 3, 50, 43, 166, 0, 5, 43, 176, 132, 7, 1, 167, 255, 186, 1, 176]
abbrev dktJ23_comparableClassFor_4 : List UInt8 := dkwJ23_comparableClassFor_4 ++ []
def dkwJ23_comparableClassFor_3 : List UInt8 := [185, 0, 23, 1, 0, 18, 7, 166, 0, 30, 25, 4, 185, 0, 27, 1, 0, 89, 78, 198, 0, 18, 45, 190]
abbrev dktJ23_comparableClassFor_3 : List UInt8 := dkwJ23_comparableClassFor_3 ++ dktJ23_comparableClassFor_4
def dkwJ23_comparableClassFor_2 : List UInt8 := [25, 5, 21, 7, 50, 58, 8, 25, 8, 193, 0, 21, 153, 0, 48, 25, 8, 192, 0, 21, 89, 58, 4]
abbrev dktJ23_comparableClassFor_2 : List UInt8 := dkwJ23_comparableClassFor_2 ++ dktJ23_comparableClassFor_3
def dkwJ23_comparableClassFor_1 : List UInt8 := [89, 77, 198, 0, 87, 44, 58, 5, 25, 5, 190, 54, 6, 3, 54, 7, 21, 7, 21, 6, 162, 0, 69]
abbrev dktJ23_comparableClassFor_1 : List UInt8 := dkwJ23_comparableClassFor_1 ++ dktJ23_comparableClassFor_2
def dkwJ23_comparableClassFor_0 : List UInt8 := [42, 193, 0, 7, 153, 0, 109, 42, 182, 0, 9, 89, 76, 18, 13, 166, 0, 5, 43, 176, 43, 182, 0, 15]
abbrev dktJ23_comparableClassFor_0 : List UInt8 := dkwJ23_comparableClassFor_0 ++ dktJ23_comparableClassFor_1
theorem dksJ23_comparableClassFor_0 : cJ23_comparableClassFor.data.toList.drop 0 = dktJ23_comparableClassFor_0 := by decide +kernel
theorem dksJ23_comparableClassFor_1 : cJ23_comparableClassFor.data.toList.drop 24 = dktJ23_comparableClassFor_1 := dk_seg dksJ23_comparableClassFor_0 24 rfl rfl
theorem dksJ23_comparableClassFor_2 : cJ23_comparableClassFor.data.toList.drop 47 = dktJ23_comparableClassFor_2 := dk_seg dksJ23_comparableClassFor_1 23 rfl rfl
theorem dksJ23_comparableClassFor_3 : cJ23_comparableClassFor.data.toList.drop 70 = dktJ23_comparableClassFor_3 := dk_seg dksJ23_comparableClassFor_2 23 rfl rfl
theorem dksJ23_comparableClassFor_4 : cJ23_comparableClassFor.data.toList.drop 94 = dktJ23_comparableClassFor_4 := dk_seg dksJ23_comparableClassFor_3 24 rfl rfl
theorem dJ23_comparableClassFor_0 : decode cJ23_comparableClassFor 0 = .ok (.aload_n 0, 1) := dk_42 (dk_at dksJ23_comparableClassFor_0 0 rfl rfl)
theorem dJ23_comparableClassFor_1 : decode cJ23_comparableClassFor 1 = .ok (.instanceof 7, 3) := dk_193 0 7 (dk_at dksJ23_comparableClassFor_0 1 rfl rfl)
theorem dJ23_comparableClassFor_4 : decode cJ23_comparableClassFor 4 = .ok (.ifCond .eq 109, 3) := dk_153 0 109 (dk_at dksJ23_comparableClassFor_0 4 rfl rfl)
theorem dJ23_comparableClassFor_7 : decode cJ23_comparableClassFor 7 = .ok (.aload_n 0, 1) := dk_42 (dk_at dksJ23_comparableClassFor_0 7 rfl rfl)
theorem dJ23_comparableClassFor_8 : decode cJ23_comparableClassFor 8 = .ok (.invokevirtual 9, 3) := dk_182 0 9 (dk_at dksJ23_comparableClassFor_0 8 rfl rfl)
theorem dJ23_comparableClassFor_11 : decode cJ23_comparableClassFor 11 = .ok (.dup, 1) := dk_89 (dk_at dksJ23_comparableClassFor_0 11 rfl rfl)
theorem dJ23_comparableClassFor_12 : decode cJ23_comparableClassFor 12 = .ok (.astore_n 1, 1) := dk_76 (dk_at dksJ23_comparableClassFor_0 12 rfl rfl)
theorem dJ23_comparableClassFor_13 : decode cJ23_comparableClassFor 13 = .ok (.ldc 13, 2) := dk_18 13 (dk_at dksJ23_comparableClassFor_0 13 rfl rfl)
theorem dJ23_comparableClassFor_15 : decode cJ23_comparableClassFor 15 = .ok (.if_acmp .ne 5, 3) := dk_166 0 5 (dk_at dksJ23_comparableClassFor_0 15 rfl rfl)
theorem dJ23_comparableClassFor_18 : decode cJ23_comparableClassFor 18 = .ok (.aload_n 1, 1) := dk_43 (dk_at dksJ23_comparableClassFor_0 18 rfl rfl)
theorem dJ23_comparableClassFor_19 : decode cJ23_comparableClassFor 19 = .ok (.areturn, 1) := dk_176 (dk_at dksJ23_comparableClassFor_0 19 rfl rfl)
theorem dJ23_comparableClassFor_20 : decode cJ23_comparableClassFor 20 = .ok (.aload_n 1, 1) := dk_43 (dk_at dksJ23_comparableClassFor_0 20 rfl rfl)
theorem dJ23_comparableClassFor_21 : decode cJ23_comparableClassFor 21 = .ok (.invokevirtual 15, 3) := dk_182 0 15 (dk_at dksJ23_comparableClassFor_0 21 rfl rfl)
theorem dJ23_comparableClassFor_24 : decode cJ23_comparableClassFor 24 = .ok (.dup, 1) := dk_89 (dk_at dksJ23_comparableClassFor_1 0 rfl rfl)
theorem dJ23_comparableClassFor_25 : decode cJ23_comparableClassFor 25 = .ok (.astore_n 2, 1) := dk_77 (dk_at dksJ23_comparableClassFor_1 1 rfl rfl)
theorem dJ23_comparableClassFor_26 : decode cJ23_comparableClassFor 26 = .ok (.ifnull 87, 3) := dk_198 0 87 (dk_at dksJ23_comparableClassFor_1 2 rfl rfl)
theorem dJ23_comparableClassFor_29 : decode cJ23_comparableClassFor 29 = .ok (.aload_n 2, 1) := dk_44 (dk_at dksJ23_comparableClassFor_1 5 rfl rfl)
theorem dJ23_comparableClassFor_30 : decode cJ23_comparableClassFor 30 = .ok (.astore 5, 2) := dk_58 5 (dk_at dksJ23_comparableClassFor_1 6 rfl rfl)
theorem dJ23_comparableClassFor_32 : decode cJ23_comparableClassFor 32 = .ok (.aload 5, 2) := dk_25 5 (dk_at dksJ23_comparableClassFor_1 8 rfl rfl)
theorem dJ23_comparableClassFor_34 : decode cJ23_comparableClassFor 34 = .ok (.arraylength, 1) := dk_190 (dk_at dksJ23_comparableClassFor_1 10 rfl rfl)
theorem dJ23_comparableClassFor_35 : decode cJ23_comparableClassFor 35 = .ok (.istore 6, 2) := dk_54 6 (dk_at dksJ23_comparableClassFor_1 11 rfl rfl)
theorem dJ23_comparableClassFor_37 : decode cJ23_comparableClassFor 37 = .ok (.iconst 0, 1) := dk_3 (dk_at dksJ23_comparableClassFor_1 13 rfl rfl)
theorem dJ23_comparableClassFor_38 : decode cJ23_comparableClassFor 38 = .ok (.istore 7, 2) := dk_54 7 (dk_at dksJ23_comparableClassFor_1 14 rfl rfl)
theorem dJ23_comparableClassFor_40 : decode cJ23_comparableClassFor 40 = .ok (.iload 7, 2) := dk_21 7 (dk_at dksJ23_comparableClassFor_1 16 rfl rfl)
theorem dJ23_comparableClassFor_42 : decode cJ23_comparableClassFor 42 = .ok (.iload 6, 2) := dk_21 6 (dk_at dksJ23_comparableClassFor_1 18 rfl rfl)
theorem dJ23_comparableClassFor_44 : decode cJ23_comparableClassFor 44 = .ok (.if_icmp .ge 69, 3) := dk_162 0 69 (dk_at dksJ23_comparableClassFor_1 20 rfl rfl)
theorem dJ23_comparableClassFor_47 : decode cJ23_comparableClassFor 47 = .ok (.aload 5, 2) := dk_25 5 (dk_at dksJ23_comparableClassFor_2 0 rfl rfl)
theorem dJ23_comparableClassFor_49 : decode cJ23_comparableClassFor 49 = .ok (.iload 7, 2) := dk_21 7 (dk_at dksJ23_comparableClassFor_2 2 rfl rfl)
theorem dJ23_comparableClassFor_51 : decode cJ23_comparableClassFor 51 = .ok (.aaload, 1) := dk_50 (dk_at dksJ23_comparableClassFor_2 4 rfl rfl)
theorem dJ23_comparableClassFor_52 : decode cJ23_comparableClassFor 52 = .ok (.astore 8, 2) := dk_58 8 (dk_at dksJ23_comparableClassFor_2 5 rfl rfl)
theorem dJ23_comparableClassFor_54 : decode cJ23_comparableClassFor 54 = .ok (.aload 8, 2) := dk_25 8 (dk_at dksJ23_comparableClassFor_2 7 rfl rfl)
theorem dJ23_comparableClassFor_56 : decode cJ23_comparableClassFor 56 = .ok (.instanceof 21, 3) := dk_193 0 21 (dk_at dksJ23_comparableClassFor_2 9 rfl rfl)
theorem dJ23_comparableClassFor_59 : decode cJ23_comparableClassFor 59 = .ok (.ifCond .eq 48, 3) := dk_153 0 48 (dk_at dksJ23_comparableClassFor_2 12 rfl rfl)
theorem dJ23_comparableClassFor_62 : decode cJ23_comparableClassFor 62 = .ok (.aload 8, 2) := dk_25 8 (dk_at dksJ23_comparableClassFor_2 15 rfl rfl)
theorem dJ23_comparableClassFor_64 : decode cJ23_comparableClassFor 64 = .ok (.checkcast 21, 3) := dk_192 0 21 (dk_at dksJ23_comparableClassFor_2 17 rfl rfl)
theorem dJ23_comparableClassFor_67 : decode cJ23_comparableClassFor 67 = .ok (.dup, 1) := dk_89 (dk_at dksJ23_comparableClassFor_2 20 rfl rfl)
theorem dJ23_comparableClassFor_68 : decode cJ23_comparableClassFor 68 = .ok (.astore 4, 2) := dk_58 4 (dk_at dksJ23_comparableClassFor_2 21 rfl rfl)
theorem dJ23_comparableClassFor_70 : decode cJ23_comparableClassFor 70 = .ok (.invokeinterface 23 1, 5) := by decide +kernel
theorem dJ23_comparableClassFor_75 : decode cJ23_comparableClassFor 75 = .ok (.ldc 7, 2) := dk_18 7 (dk_at dksJ23_comparableClassFor_3 5 rfl rfl)
theorem dJ23_comparableClassFor_77 : decode cJ23_comparableClassFor 77 = .ok (.if_acmp .ne 30, 3) := dk_166 0 30 (dk_at dksJ23_comparableClassFor_3 7 rfl rfl)
theorem dJ23_comparableClassFor_80 : decode cJ23_comparableClassFor 80 = .ok (.aload 4, 2) := dk_25 4 (dk_at dksJ23_comparableClassFor_3 10 rfl rfl)
theorem dJ23_comparableClassFor_82 : decode cJ23_comparableClassFor 82 = .ok (.invokeinterface 27 1, 5) := by decide +kernel
theorem dJ23_comparableClassFor_87 : decode cJ23_comparableClassFor 87 = .ok (.dup, 1) := dk_89 (dk_at dksJ23_comparableClassFor_3 17 rfl rfl)
theorem dJ23_comparableClassFor_88 : decode cJ23_comparableClassFor 88 = .ok (.astore_n 3, 1) := dk_78 (dk_at dksJ23_comparableClassFor_3 18 rfl rfl)
theorem dJ23_comparableClassFor_89 : decode cJ23_comparableClassFor 89 = .ok (.ifnull 18, 3) := dk_198 0 18 (dk_at dksJ23_comparableClassFor_3 19 rfl rfl)
theorem dJ23_comparableClassFor_92 : decode cJ23_comparableClassFor 92 = .ok (.aload_n 3, 1) := dk_45 (dk_at dksJ23_comparableClassFor_3 22 rfl rfl)
theorem dJ23_comparableClassFor_93 : decode cJ23_comparableClassFor 93 = .ok (.arraylength, 1) := dk_190 (dk_at dksJ23_comparableClassFor_3 23 rfl rfl)
theorem dJ23_comparableClassFor_94 : decode cJ23_comparableClassFor 94 = .ok (.iconst 1, 1) := dk_4 (dk_at dksJ23_comparableClassFor_4 0 rfl rfl)
theorem dJ23_comparableClassFor_95 : decode cJ23_comparableClassFor 95 = .ok (.if_icmp .ne 12, 3) := dk_160 0 12 (dk_at dksJ23_comparableClassFor_4 1 rfl rfl)
theorem dJ23_comparableClassFor_98 : decode cJ23_comparableClassFor 98 = .ok (.aload_n 3, 1) := dk_45 (dk_at dksJ23_comparableClassFor_4 4 rfl rfl)
theorem dJ23_comparableClassFor_99 : decode cJ23_comparableClassFor 99 = .ok (.iconst 0, 1) := dk_3 (dk_at dksJ23_comparableClassFor_4 5 rfl rfl)
theorem dJ23_comparableClassFor_100 : decode cJ23_comparableClassFor 100 = .ok (.aaload, 1) := dk_50 (dk_at dksJ23_comparableClassFor_4 6 rfl rfl)
theorem dJ23_comparableClassFor_101 : decode cJ23_comparableClassFor 101 = .ok (.aload_n 1, 1) := dk_43 (dk_at dksJ23_comparableClassFor_4 7 rfl rfl)
theorem dJ23_comparableClassFor_102 : decode cJ23_comparableClassFor 102 = .ok (.if_acmp .ne 5, 3) := dk_166 0 5 (dk_at dksJ23_comparableClassFor_4 8 rfl rfl)
theorem dJ23_comparableClassFor_105 : decode cJ23_comparableClassFor 105 = .ok (.aload_n 1, 1) := dk_43 (dk_at dksJ23_comparableClassFor_4 11 rfl rfl)
theorem dJ23_comparableClassFor_106 : decode cJ23_comparableClassFor 106 = .ok (.areturn, 1) := dk_176 (dk_at dksJ23_comparableClassFor_4 12 rfl rfl)
theorem dJ23_comparableClassFor_107 : decode cJ23_comparableClassFor 107 = .ok (.iinc 7 1, 3) := dk_132 7 1 (dk_at dksJ23_comparableClassFor_4 13 rfl rfl)
theorem dJ23_comparableClassFor_110 : decode cJ23_comparableClassFor 110 = .ok (.goto (-70), 3) := dk_167 255 186 (dk_at dksJ23_comparableClassFor_4 16 rfl rfl)
theorem dJ23_comparableClassFor_113 : decode cJ23_comparableClassFor 113 = .ok (.aconst_null, 1) := dk_1 (dk_at dksJ23_comparableClassFor_4 19 rfl rfl)
theorem dJ23_comparableClassFor_114 : decode cJ23_comparableClassFor 114 = .ok (.areturn, 1) := dk_176 (dk_at dksJ23_comparableClassFor_4 20 rfl rfl)
abbrev cJ23_compareComparables : ByteArray := prog_54_method_3_code
def yJ23_compareComparables : MethodName := ⟨RJ23, "compareComparables", "(Ljava/lang/Class;Ljava/lang/Object;Ljava/lang/Object;)I"⟩
def dkwJ23_compareComparables_1 : List UInt8 := [185, 0, 30, 2, 0, 172]
abbrev dktJ23_compareComparables_1 : List UInt8 := dkwJ23_compareComparables_1 ++ []
def dkwJ23_compareComparables_0 : List UInt8 := [44, 198, 0, 11, 44, 182, 0, 9, 42, 165, 0, 7, 3, 167, 0, 13, 43, 192, 0, 7, 44]
abbrev dktJ23_compareComparables_0 : List UInt8 := dkwJ23_compareComparables_0 ++ dktJ23_compareComparables_1
theorem dksJ23_compareComparables_0 : cJ23_compareComparables.data.toList.drop 0 = dktJ23_compareComparables_0 := by decide +kernel
theorem dksJ23_compareComparables_1 : cJ23_compareComparables.data.toList.drop 21 = dktJ23_compareComparables_1 := dk_seg dksJ23_compareComparables_0 21 rfl rfl
theorem dJ23_compareComparables_0 : decode cJ23_compareComparables 0 = .ok (.aload_n 2, 1) := dk_44 (dk_at dksJ23_compareComparables_0 0 rfl rfl)
theorem dJ23_compareComparables_1 : decode cJ23_compareComparables 1 = .ok (.ifnull 11, 3) := dk_198 0 11 (dk_at dksJ23_compareComparables_0 1 rfl rfl)
theorem dJ23_compareComparables_4 : decode cJ23_compareComparables 4 = .ok (.aload_n 2, 1) := dk_44 (dk_at dksJ23_compareComparables_0 4 rfl rfl)
theorem dJ23_compareComparables_5 : decode cJ23_compareComparables 5 = .ok (.invokevirtual 9, 3) := dk_182 0 9 (dk_at dksJ23_compareComparables_0 5 rfl rfl)
theorem dJ23_compareComparables_8 : decode cJ23_compareComparables 8 = .ok (.aload_n 0, 1) := dk_42 (dk_at dksJ23_compareComparables_0 8 rfl rfl)
theorem dJ23_compareComparables_9 : decode cJ23_compareComparables 9 = .ok (.if_acmp .eq 7, 3) := dk_165 0 7 (dk_at dksJ23_compareComparables_0 9 rfl rfl)
theorem dJ23_compareComparables_12 : decode cJ23_compareComparables 12 = .ok (.iconst 0, 1) := dk_3 (dk_at dksJ23_compareComparables_0 12 rfl rfl)
theorem dJ23_compareComparables_13 : decode cJ23_compareComparables 13 = .ok (.goto 13, 3) := dk_167 0 13 (dk_at dksJ23_compareComparables_0 13 rfl rfl)
theorem dJ23_compareComparables_16 : decode cJ23_compareComparables 16 = .ok (.aload_n 1, 1) := dk_43 (dk_at dksJ23_compareComparables_0 16 rfl rfl)
theorem dJ23_compareComparables_17 : decode cJ23_compareComparables 17 = .ok (.checkcast 7, 3) := dk_192 0 7 (dk_at dksJ23_compareComparables_0 17 rfl rfl)
theorem dJ23_compareComparables_20 : decode cJ23_compareComparables 20 = .ok (.aload_n 2, 1) := dk_44 (dk_at dksJ23_compareComparables_0 20 rfl rfl)
theorem dJ23_compareComparables_21 : decode cJ23_compareComparables 21 = .ok (.invokeinterface 30 2, 5) := by decide +kernel
theorem dJ23_compareComparables_26 : decode cJ23_compareComparables 26 = .ok (.ireturn, 1) := dk_172 (dk_at dksJ23_compareComparables_1 5 rfl rfl)
abbrev cJ23_newNode : ByteArray := prog_54_method_46_code
def yJ23_newNode : MethodName := ⟨RJ23, "newNode", "(ILjava/lang/Object;Ljava/lang/Object;Ljava/util/HashMap$Node;)Ljava/util/HashMap$Node;"⟩
def dkwJ23_newNode_0 : List UInt8 := [187, 0, 163, 89, 27, 44, 45, 25, 4, 183, 1, 119, 176]
abbrev dktJ23_newNode_0 : List UInt8 := dkwJ23_newNode_0 ++ []
theorem dksJ23_newNode_0 : cJ23_newNode.data.toList.drop 0 = dktJ23_newNode_0 := by decide +kernel
theorem dJ23_newNode_0 : decode cJ23_newNode 0 = .ok (.new 163, 3) := dk_187 0 163 (dk_at dksJ23_newNode_0 0 rfl rfl)
theorem dJ23_newNode_3 : decode cJ23_newNode 3 = .ok (.dup, 1) := dk_89 (dk_at dksJ23_newNode_0 3 rfl rfl)
theorem dJ23_newNode_4 : decode cJ23_newNode 4 = .ok (.iload_n 1, 1) := dk_27 (dk_at dksJ23_newNode_0 4 rfl rfl)
theorem dJ23_newNode_5 : decode cJ23_newNode 5 = .ok (.aload_n 2, 1) := dk_44 (dk_at dksJ23_newNode_0 5 rfl rfl)
theorem dJ23_newNode_6 : decode cJ23_newNode 6 = .ok (.aload_n 3, 1) := dk_45 (dk_at dksJ23_newNode_0 6 rfl rfl)
theorem dJ23_newNode_7 : decode cJ23_newNode 7 = .ok (.aload 4, 2) := dk_25 4 (dk_at dksJ23_newNode_0 7 rfl rfl)
theorem dJ23_newNode_9 : decode cJ23_newNode 9 = .ok (.invokespecial 375, 3) := dk_183 1 119 (dk_at dksJ23_newNode_0 9 rfl rfl)
theorem dJ23_newNode_12 : decode cJ23_newNode 12 = .ok (.areturn, 1) := dk_176 (dk_at dksJ23_newNode_0 12 rfl rfl)
abbrev cJ23_newTreeNode : ByteArray := prog_54_method_48_code
def yJ23_newTreeNode : MethodName := ⟨RJ23, "newTreeNode", "(ILjava/lang/Object;Ljava/lang/Object;Ljava/util/HashMap$Node;)Ljava/util/HashMap$TreeNode;"⟩
def dkwJ23_newTreeNode_0 : List UInt8 := [187, 0, 180, 89, 27, 44, 45, 25, 4, 183, 1, 122, 176]
abbrev dktJ23_newTreeNode_0 : List UInt8 := dkwJ23_newTreeNode_0 ++ []
theorem dksJ23_newTreeNode_0 : cJ23_newTreeNode.data.toList.drop 0 = dktJ23_newTreeNode_0 := by decide +kernel
theorem dJ23_newTreeNode_0 : decode cJ23_newTreeNode 0 = .ok (.new 180, 3) := dk_187 0 180 (dk_at dksJ23_newTreeNode_0 0 rfl rfl)
theorem dJ23_newTreeNode_3 : decode cJ23_newTreeNode 3 = .ok (.dup, 1) := dk_89 (dk_at dksJ23_newTreeNode_0 3 rfl rfl)
theorem dJ23_newTreeNode_4 : decode cJ23_newTreeNode 4 = .ok (.iload_n 1, 1) := dk_27 (dk_at dksJ23_newTreeNode_0 4 rfl rfl)
theorem dJ23_newTreeNode_5 : decode cJ23_newTreeNode 5 = .ok (.aload_n 2, 1) := dk_44 (dk_at dksJ23_newTreeNode_0 5 rfl rfl)
theorem dJ23_newTreeNode_6 : decode cJ23_newTreeNode 6 = .ok (.aload_n 3, 1) := dk_45 (dk_at dksJ23_newTreeNode_0 6 rfl rfl)
theorem dJ23_newTreeNode_7 : decode cJ23_newTreeNode 7 = .ok (.aload 4, 2) := dk_25 4 (dk_at dksJ23_newTreeNode_0 7 rfl rfl)
theorem dJ23_newTreeNode_9 : decode cJ23_newTreeNode 9 = .ok (.invokespecial 378, 3) := dk_183 1 122 (dk_at dksJ23_newTreeNode_0 9 rfl rfl)
theorem dJ23_newTreeNode_12 : decode cJ23_newTreeNode 12 = .ok (.areturn, 1) := dk_176 (dk_at dksJ23_newTreeNode_0 12 rfl rfl)
abbrev cJ23_treeifyBin : ByteArray := prog_54_method_18_code
def yJ23_treeifyBin : MethodName := ⟨RJ23, "treeifyBin", "([Ljava/util/HashMap$Node;I)V"⟩
def dkwJ23_treeifyBin_4 : List UInt8 := [21, 4, 25, 6, 91, 83, 198, 0, 9, 25, 6, 43, 182, 0, 224, 177]
abbrev dktJ23_treeifyBin_4 : List UInt8 := dkwJ23_treeifyBin_4 ++ []
def dkwJ23_treeifyBin_3 : List UInt8 := [25, 7, 25, 8, 181, 0, 223, 25, 8, 58, 7, 25, 5, 180, 0, 177, 89, 58, 5, 199, 255, 209, 43]
abbrev dktJ23_treeifyBin_3 : List UInt8 := dkwJ23_treeifyBin_3 ++ dktJ23_treeifyBin_4
def dkwJ23_treeifyBin_2 : List UInt8 := [182, 0, 215, 58, 8, 25, 7, 199, 0, 10, 25, 8, 58, 6, 167, 0, 17, 25, 8, 25, 7, 181, 0, 219]
abbrev dktJ23_treeifyBin_2 : List UInt8 := dkwJ23_treeifyBin_2 ++ dktJ23_treeifyBin_3
def dkwJ23_treeifyBin_1 : List UInt8 := [100, 28, 126, 89, 54, 4, 50, 89, 58, 5, 198, 0, 75, 1, 58, 6, 1, 58, 7, 42, 25, 5, 1]
abbrev dktJ23_treeifyBin_1 : List UInt8 := dkwJ23_treeifyBin_1 ++ dktJ23_treeifyBin_2
def dkwJ23_treeifyBin_0 : List UInt8 := [43, 198, 0, 12, 43, 190, 89, 62, 16, 64, 162, 0, 11, 42, 182, 0, 117, 87, 167, 0, 91, 43, 29, 4]
abbrev dktJ23_treeifyBin_0 : List UInt8 := dkwJ23_treeifyBin_0 ++ dktJ23_treeifyBin_1
theorem dksJ23_treeifyBin_0 : cJ23_treeifyBin.data.toList.drop 0 = dktJ23_treeifyBin_0 := by decide +kernel
theorem dksJ23_treeifyBin_1 : cJ23_treeifyBin.data.toList.drop 24 = dktJ23_treeifyBin_1 := dk_seg dksJ23_treeifyBin_0 24 rfl rfl
theorem dksJ23_treeifyBin_2 : cJ23_treeifyBin.data.toList.drop 47 = dktJ23_treeifyBin_2 := dk_seg dksJ23_treeifyBin_1 23 rfl rfl
theorem dksJ23_treeifyBin_3 : cJ23_treeifyBin.data.toList.drop 71 = dktJ23_treeifyBin_3 := dk_seg dksJ23_treeifyBin_2 24 rfl rfl
theorem dksJ23_treeifyBin_4 : cJ23_treeifyBin.data.toList.drop 94 = dktJ23_treeifyBin_4 := dk_seg dksJ23_treeifyBin_3 23 rfl rfl
theorem dJ23_treeifyBin_0 : decode cJ23_treeifyBin 0 = .ok (.aload_n 1, 1) := dk_43 (dk_at dksJ23_treeifyBin_0 0 rfl rfl)
theorem dJ23_treeifyBin_1 : decode cJ23_treeifyBin 1 = .ok (.ifnull 12, 3) := dk_198 0 12 (dk_at dksJ23_treeifyBin_0 1 rfl rfl)
theorem dJ23_treeifyBin_4 : decode cJ23_treeifyBin 4 = .ok (.aload_n 1, 1) := dk_43 (dk_at dksJ23_treeifyBin_0 4 rfl rfl)
theorem dJ23_treeifyBin_5 : decode cJ23_treeifyBin 5 = .ok (.arraylength, 1) := dk_190 (dk_at dksJ23_treeifyBin_0 5 rfl rfl)
theorem dJ23_treeifyBin_6 : decode cJ23_treeifyBin 6 = .ok (.dup, 1) := dk_89 (dk_at dksJ23_treeifyBin_0 6 rfl rfl)
theorem dJ23_treeifyBin_7 : decode cJ23_treeifyBin 7 = .ok (.istore_n 3, 1) := dk_62 (dk_at dksJ23_treeifyBin_0 7 rfl rfl)
theorem dJ23_treeifyBin_8 : decode cJ23_treeifyBin 8 = .ok (.bipush 64, 2) := dk_16 64 (dk_at dksJ23_treeifyBin_0 8 rfl rfl)
theorem dJ23_treeifyBin_10 : decode cJ23_treeifyBin 10 = .ok (.if_icmp .ge 11, 3) := dk_162 0 11 (dk_at dksJ23_treeifyBin_0 10 rfl rfl)
theorem dJ23_treeifyBin_13 : decode cJ23_treeifyBin 13 = .ok (.aload_n 0, 1) := dk_42 (dk_at dksJ23_treeifyBin_0 13 rfl rfl)
theorem dJ23_treeifyBin_14 : decode cJ23_treeifyBin 14 = .ok (.invokevirtual 117, 3) := dk_182 0 117 (dk_at dksJ23_treeifyBin_0 14 rfl rfl)
theorem dJ23_treeifyBin_17 : decode cJ23_treeifyBin 17 = .ok (.pop, 1) := dk_87 (dk_at dksJ23_treeifyBin_0 17 rfl rfl)
theorem dJ23_treeifyBin_18 : decode cJ23_treeifyBin 18 = .ok (.goto 91, 3) := dk_167 0 91 (dk_at dksJ23_treeifyBin_0 18 rfl rfl)
theorem dJ23_treeifyBin_21 : decode cJ23_treeifyBin 21 = .ok (.aload_n 1, 1) := dk_43 (dk_at dksJ23_treeifyBin_0 21 rfl rfl)
theorem dJ23_treeifyBin_22 : decode cJ23_treeifyBin 22 = .ok (.iload_n 3, 1) := dk_29 (dk_at dksJ23_treeifyBin_0 22 rfl rfl)
theorem dJ23_treeifyBin_23 : decode cJ23_treeifyBin 23 = .ok (.iconst 1, 1) := dk_4 (dk_at dksJ23_treeifyBin_0 23 rfl rfl)
theorem dJ23_treeifyBin_24 : decode cJ23_treeifyBin 24 = .ok (.isub, 1) := dk_100 (dk_at dksJ23_treeifyBin_1 0 rfl rfl)
theorem dJ23_treeifyBin_25 : decode cJ23_treeifyBin 25 = .ok (.iload_n 2, 1) := dk_28 (dk_at dksJ23_treeifyBin_1 1 rfl rfl)
theorem dJ23_treeifyBin_26 : decode cJ23_treeifyBin 26 = .ok (.iand, 1) := dk_126 (dk_at dksJ23_treeifyBin_1 2 rfl rfl)
theorem dJ23_treeifyBin_27 : decode cJ23_treeifyBin 27 = .ok (.dup, 1) := dk_89 (dk_at dksJ23_treeifyBin_1 3 rfl rfl)
theorem dJ23_treeifyBin_28 : decode cJ23_treeifyBin 28 = .ok (.istore 4, 2) := dk_54 4 (dk_at dksJ23_treeifyBin_1 4 rfl rfl)
theorem dJ23_treeifyBin_30 : decode cJ23_treeifyBin 30 = .ok (.aaload, 1) := dk_50 (dk_at dksJ23_treeifyBin_1 6 rfl rfl)
theorem dJ23_treeifyBin_31 : decode cJ23_treeifyBin 31 = .ok (.dup, 1) := dk_89 (dk_at dksJ23_treeifyBin_1 7 rfl rfl)
theorem dJ23_treeifyBin_32 : decode cJ23_treeifyBin 32 = .ok (.astore 5, 2) := dk_58 5 (dk_at dksJ23_treeifyBin_1 8 rfl rfl)
theorem dJ23_treeifyBin_34 : decode cJ23_treeifyBin 34 = .ok (.ifnull 75, 3) := dk_198 0 75 (dk_at dksJ23_treeifyBin_1 10 rfl rfl)
theorem dJ23_treeifyBin_37 : decode cJ23_treeifyBin 37 = .ok (.aconst_null, 1) := dk_1 (dk_at dksJ23_treeifyBin_1 13 rfl rfl)
theorem dJ23_treeifyBin_38 : decode cJ23_treeifyBin 38 = .ok (.astore 6, 2) := dk_58 6 (dk_at dksJ23_treeifyBin_1 14 rfl rfl)
theorem dJ23_treeifyBin_40 : decode cJ23_treeifyBin 40 = .ok (.aconst_null, 1) := dk_1 (dk_at dksJ23_treeifyBin_1 16 rfl rfl)
theorem dJ23_treeifyBin_41 : decode cJ23_treeifyBin 41 = .ok (.astore 7, 2) := dk_58 7 (dk_at dksJ23_treeifyBin_1 17 rfl rfl)
theorem dJ23_treeifyBin_43 : decode cJ23_treeifyBin 43 = .ok (.aload_n 0, 1) := dk_42 (dk_at dksJ23_treeifyBin_1 19 rfl rfl)
theorem dJ23_treeifyBin_44 : decode cJ23_treeifyBin 44 = .ok (.aload 5, 2) := dk_25 5 (dk_at dksJ23_treeifyBin_1 20 rfl rfl)
theorem dJ23_treeifyBin_46 : decode cJ23_treeifyBin 46 = .ok (.aconst_null, 1) := dk_1 (dk_at dksJ23_treeifyBin_1 22 rfl rfl)
theorem dJ23_treeifyBin_47 : decode cJ23_treeifyBin 47 = .ok (.invokevirtual 215, 3) := dk_182 0 215 (dk_at dksJ23_treeifyBin_2 0 rfl rfl)
theorem dJ23_treeifyBin_50 : decode cJ23_treeifyBin 50 = .ok (.astore 8, 2) := dk_58 8 (dk_at dksJ23_treeifyBin_2 3 rfl rfl)
theorem dJ23_treeifyBin_52 : decode cJ23_treeifyBin 52 = .ok (.aload 7, 2) := dk_25 7 (dk_at dksJ23_treeifyBin_2 5 rfl rfl)
theorem dJ23_treeifyBin_54 : decode cJ23_treeifyBin 54 = .ok (.ifnonnull 10, 3) := dk_199 0 10 (dk_at dksJ23_treeifyBin_2 7 rfl rfl)
theorem dJ23_treeifyBin_57 : decode cJ23_treeifyBin 57 = .ok (.aload 8, 2) := dk_25 8 (dk_at dksJ23_treeifyBin_2 10 rfl rfl)
theorem dJ23_treeifyBin_59 : decode cJ23_treeifyBin 59 = .ok (.astore 6, 2) := dk_58 6 (dk_at dksJ23_treeifyBin_2 12 rfl rfl)
theorem dJ23_treeifyBin_61 : decode cJ23_treeifyBin 61 = .ok (.goto 17, 3) := dk_167 0 17 (dk_at dksJ23_treeifyBin_2 14 rfl rfl)
theorem dJ23_treeifyBin_64 : decode cJ23_treeifyBin 64 = .ok (.aload 8, 2) := dk_25 8 (dk_at dksJ23_treeifyBin_2 17 rfl rfl)
theorem dJ23_treeifyBin_66 : decode cJ23_treeifyBin 66 = .ok (.aload 7, 2) := dk_25 7 (dk_at dksJ23_treeifyBin_2 19 rfl rfl)
theorem dJ23_treeifyBin_68 : decode cJ23_treeifyBin 68 = .ok (.putfield 219, 3) := dk_181 0 219 (dk_at dksJ23_treeifyBin_2 21 rfl rfl)
theorem dJ23_treeifyBin_71 : decode cJ23_treeifyBin 71 = .ok (.aload 7, 2) := dk_25 7 (dk_at dksJ23_treeifyBin_3 0 rfl rfl)
theorem dJ23_treeifyBin_73 : decode cJ23_treeifyBin 73 = .ok (.aload 8, 2) := dk_25 8 (dk_at dksJ23_treeifyBin_3 2 rfl rfl)
theorem dJ23_treeifyBin_75 : decode cJ23_treeifyBin 75 = .ok (.putfield 223, 3) := dk_181 0 223 (dk_at dksJ23_treeifyBin_3 4 rfl rfl)
theorem dJ23_treeifyBin_78 : decode cJ23_treeifyBin 78 = .ok (.aload 8, 2) := dk_25 8 (dk_at dksJ23_treeifyBin_3 7 rfl rfl)
theorem dJ23_treeifyBin_80 : decode cJ23_treeifyBin 80 = .ok (.astore 7, 2) := dk_58 7 (dk_at dksJ23_treeifyBin_3 9 rfl rfl)
theorem dJ23_treeifyBin_82 : decode cJ23_treeifyBin 82 = .ok (.aload 5, 2) := dk_25 5 (dk_at dksJ23_treeifyBin_3 11 rfl rfl)
theorem dJ23_treeifyBin_84 : decode cJ23_treeifyBin 84 = .ok (.getfield 177, 3) := dk_180 0 177 (dk_at dksJ23_treeifyBin_3 13 rfl rfl)
theorem dJ23_treeifyBin_87 : decode cJ23_treeifyBin 87 = .ok (.dup, 1) := dk_89 (dk_at dksJ23_treeifyBin_3 16 rfl rfl)
theorem dJ23_treeifyBin_88 : decode cJ23_treeifyBin 88 = .ok (.astore 5, 2) := dk_58 5 (dk_at dksJ23_treeifyBin_3 17 rfl rfl)
theorem dJ23_treeifyBin_90 : decode cJ23_treeifyBin 90 = .ok (.ifnonnull (-47), 3) := dk_199 255 209 (dk_at dksJ23_treeifyBin_3 19 rfl rfl)
theorem dJ23_treeifyBin_93 : decode cJ23_treeifyBin 93 = .ok (.aload_n 1, 1) := dk_43 (dk_at dksJ23_treeifyBin_3 22 rfl rfl)
theorem dJ23_treeifyBin_94 : decode cJ23_treeifyBin 94 = .ok (.iload 4, 2) := dk_21 4 (dk_at dksJ23_treeifyBin_4 0 rfl rfl)
theorem dJ23_treeifyBin_96 : decode cJ23_treeifyBin 96 = .ok (.aload 6, 2) := dk_25 6 (dk_at dksJ23_treeifyBin_4 2 rfl rfl)
theorem dJ23_treeifyBin_98 : decode cJ23_treeifyBin 98 = .ok (.dup_x2, 1) := dk_91 (dk_at dksJ23_treeifyBin_4 4 rfl rfl)
theorem dJ23_treeifyBin_99 : decode cJ23_treeifyBin 99 = .ok (.aastore, 1) := dk_83 (dk_at dksJ23_treeifyBin_4 5 rfl rfl)
theorem dJ23_treeifyBin_100 : decode cJ23_treeifyBin 100 = .ok (.ifnull 9, 3) := dk_198 0 9 (dk_at dksJ23_treeifyBin_4 6 rfl rfl)
theorem dJ23_treeifyBin_103 : decode cJ23_treeifyBin 103 = .ok (.aload 6, 2) := dk_25 6 (dk_at dksJ23_treeifyBin_4 9 rfl rfl)
theorem dJ23_treeifyBin_105 : decode cJ23_treeifyBin 105 = .ok (.aload_n 1, 1) := dk_43 (dk_at dksJ23_treeifyBin_4 11 rfl rfl)
theorem dJ23_treeifyBin_106 : decode cJ23_treeifyBin 106 = .ok (.invokevirtual 224, 3) := dk_182 0 224 (dk_at dksJ23_treeifyBin_4 12 rfl rfl)
theorem dJ23_treeifyBin_109 : decode cJ23_treeifyBin 109 = .ok (.return_, 1) := dk_177 (dk_at dksJ23_treeifyBin_4 15 rfl rfl)
abbrev cJ23_replacementTreeNode : ByteArray := prog_54_method_49_code
def yJ23_replacementTreeNode : MethodName := ⟨RJ23, "replacementTreeNode", "(Ljava/util/HashMap$Node;Ljava/util/HashMap$Node;)Ljava/util/HashMap$TreeNode;"⟩
def dkwJ23_replacementTreeNode_0 : List UInt8 := [187, 0, 180, 89, 43, 180, 0, 168, 43, 180, 0, 170, 43, 180, 0, 162, 44, 183, 1, 122, 176]
abbrev dktJ23_replacementTreeNode_0 : List UInt8 := dkwJ23_replacementTreeNode_0 ++ []
theorem dksJ23_replacementTreeNode_0 : cJ23_replacementTreeNode.data.toList.drop 0 = dktJ23_replacementTreeNode_0 := by decide +kernel
theorem dJ23_replacementTreeNode_0 : decode cJ23_replacementTreeNode 0 = .ok (.new 180, 3) := dk_187 0 180 (dk_at dksJ23_replacementTreeNode_0 0 rfl rfl)
theorem dJ23_replacementTreeNode_3 : decode cJ23_replacementTreeNode 3 = .ok (.dup, 1) := dk_89 (dk_at dksJ23_replacementTreeNode_0 3 rfl rfl)
theorem dJ23_replacementTreeNode_4 : decode cJ23_replacementTreeNode 4 = .ok (.aload_n 1, 1) := dk_43 (dk_at dksJ23_replacementTreeNode_0 4 rfl rfl)
theorem dJ23_replacementTreeNode_5 : decode cJ23_replacementTreeNode 5 = .ok (.getfield 168, 3) := dk_180 0 168 (dk_at dksJ23_replacementTreeNode_0 5 rfl rfl)
theorem dJ23_replacementTreeNode_8 : decode cJ23_replacementTreeNode 8 = .ok (.aload_n 1, 1) := dk_43 (dk_at dksJ23_replacementTreeNode_0 8 rfl rfl)
theorem dJ23_replacementTreeNode_9 : decode cJ23_replacementTreeNode 9 = .ok (.getfield 170, 3) := dk_180 0 170 (dk_at dksJ23_replacementTreeNode_0 9 rfl rfl)
theorem dJ23_replacementTreeNode_12 : decode cJ23_replacementTreeNode 12 = .ok (.aload_n 1, 1) := dk_43 (dk_at dksJ23_replacementTreeNode_0 12 rfl rfl)
theorem dJ23_replacementTreeNode_13 : decode cJ23_replacementTreeNode 13 = .ok (.getfield 162, 3) := dk_180 0 162 (dk_at dksJ23_replacementTreeNode_0 13 rfl rfl)
theorem dJ23_replacementTreeNode_16 : decode cJ23_replacementTreeNode 16 = .ok (.aload_n 2, 1) := dk_44 (dk_at dksJ23_replacementTreeNode_0 16 rfl rfl)
theorem dJ23_replacementTreeNode_17 : decode cJ23_replacementTreeNode 17 = .ok (.invokespecial 378, 3) := dk_183 1 122 (dk_at dksJ23_replacementTreeNode_0 17 rfl rfl)
theorem dJ23_replacementTreeNode_20 : decode cJ23_replacementTreeNode 20 = .ok (.areturn, 1) := dk_176 (dk_at dksJ23_replacementTreeNode_0 20 rfl rfl)
abbrev cJ23_afterNodeAccess : ByteArray := prog_54_method_51_code
def yJ23_afterNodeAccess : MethodName := ⟨RJ23, "afterNodeAccess", "(Ljava/util/HashMap$Node;)V"⟩
theorem dJ23_afterNodeAccess_0 : decode cJ23_afterNodeAccess 0 = .ok (.return_, 1) := by decide +kernel
abbrev cJ23_afterNodeInsertion : ByteArray := prog_54_method_52_code
def yJ23_afterNodeInsertion : MethodName := ⟨RJ23, "afterNodeInsertion", "(Z)V"⟩
theorem dJ23_afterNodeInsertion_0 : decode cJ23_afterNodeInsertion 0 = .ok (.return_, 1) := by decide +kernel
theorem q92 : (Jvm.Cond.initialized "java/util/HashMap") ∈ lw_all := lw_g (lw_at lw_m1 48 rfl) rfl
theorem q379 : (Jvm.Cond.instantiable "java/util/HashMap" (8 : Nat)) ∈ lw_all := lw_g (lw_at lw_m2 95 rfl) rfl
theorem q381 : (Jvm.Cond.instanceMethod ({ cls := "java/util/HashMap", name := "<init>", desc := "()V" } : Jvm.MethodName)) ∈ lw_all := lw_g (lw_at lw_m2 97 rfl) rfl
theorem q382 : (Jvm.Cond.code ({ cls := "java/util/HashMap", name := "<init>", desc := "()V" } : Jvm.MethodName) prog_54_method_7_code (1 : Nat) (Option.none : Option Jvm.ClassFile.FieldType)) ∈ lw_all := lw_g (lw_at lw_m2 98 rfl) rfl
theorem q383 : (Jvm.Cond.methodLink "java/util/HashMap" (43 : Nat) ({ cls := "java/util/AbstractMap", name := "<init>", desc := "()V" } : Jvm.MethodName)) ∈ lw_all := lw_g (lw_at lw_m2 99 rfl) rfl
theorem q387 : (Jvm.Cond.constantFloat "java/util/HashMap" (92 : Nat) (1061158912 : UInt32)) ∈ lw_all := lw_g (lw_at lw_m2 103 rfl) rfl
theorem q388 : (Jvm.Cond.fieldLink "java/util/HashMap" (105 : Nat) "java/util/HashMap" "table" "[Ljava/util/HashMap$Node;") ∈ lw_all := lw_g (lw_at lw_m2 104 rfl) rfl
theorem q389 : (Jvm.Cond.fieldLink "java/util/HashMap" (156 : Nat) "java/util/HashMap" "size" "I") ∈ lw_all := lw_g (lw_at lw_m2 105 rfl) rfl
theorem q390 : (Jvm.Cond.fieldLink "java/util/HashMap" (202 : Nat) "java/util/HashMap" "modCount" "I") ∈ lw_all := lw_g (lw_at lw_m2 106 rfl) rfl
theorem q391 : (Jvm.Cond.fieldLink "java/util/HashMap" (88 : Nat) "java/util/HashMap" "threshold" "I") ∈ lw_all := lw_g (lw_at lw_m2 107 rfl) rfl
theorem q392 : (Jvm.Cond.fieldLink "java/util/HashMap" (81 : Nat) "java/util/HashMap" "loadFactor" "F") ∈ lw_all := lw_g (lw_at lw_m2 108 rfl) rfl
theorem q393 : (Jvm.Cond.lays "java/util/HashMap" "java/util/HashMap" "table" "[Ljava/util/HashMap$Node;") ∈ lw_all := lw_g (lw_at lw_m2 109 rfl) rfl
theorem q394 : (Jvm.Cond.soleField "java/util/HashMap" "table") ∈ lw_all := lw_g (lw_at lw_m2 110 rfl) rfl
theorem q395 : (Jvm.Cond.lays "java/util/HashMap" "java/util/HashMap" "entrySet" "Ljava/util/Set;") ∈ lw_all := lw_g (lw_at lw_m2 111 rfl) rfl
theorem q396 : (Jvm.Cond.soleField "java/util/HashMap" "entrySet") ∈ lw_all := lw_g (lw_at lw_m2 112 rfl) rfl
theorem q397 : (Jvm.Cond.lays "java/util/HashMap" "java/util/HashMap" "size" "I") ∈ lw_all := lw_g (lw_at lw_m2 113 rfl) rfl
theorem q398 : (Jvm.Cond.soleField "java/util/HashMap" "size") ∈ lw_all := lw_g (lw_at lw_m2 114 rfl) rfl
theorem q399 : (Jvm.Cond.lays "java/util/HashMap" "java/util/HashMap" "modCount" "I") ∈ lw_all := lw_g (lw_at lw_m2 115 rfl) rfl
theorem q400 : (Jvm.Cond.soleField "java/util/HashMap" "modCount") ∈ lw_all := lw_g (lw_at lw_m2 116 rfl) rfl
theorem q401 : (Jvm.Cond.lays "java/util/HashMap" "java/util/HashMap" "threshold" "I") ∈ lw_all := lw_g (lw_at lw_m2 117 rfl) rfl
theorem q402 : (Jvm.Cond.soleField "java/util/HashMap" "threshold") ∈ lw_all := lw_g (lw_at lw_m2 118 rfl) rfl
theorem q403 : (Jvm.Cond.laysFinal "java/util/HashMap" "java/util/HashMap" "loadFactor" "F") ∈ lw_all := lw_g (lw_at lw_m2 119 rfl) rfl
theorem q404 : (Jvm.Cond.soleField "java/util/HashMap" "loadFactor") ∈ lw_all := lw_g (lw_at lw_m2 120 rfl) rfl
theorem q405 : (Jvm.Cond.lays "java/util/HashMap" "java/util/AbstractMap" "keySet" "Ljava/util/Set;") ∈ lw_all := lw_g (lw_at lw_m2 121 rfl) rfl
theorem q407 : (Jvm.Cond.lays "java/util/HashMap" "java/util/AbstractMap" "values" "Ljava/util/Collection;") ∈ lw_all := lw_g (lw_at lw_m2 123 rfl) rfl
theorem q409 : (Jvm.Cond.superclass "java/util/HashMap" "java/util/AbstractMap") ∈ lw_all := lw_g (lw_at lw_m2 125 rfl) rfl
theorem q443 : (Jvm.Cond.instanceMethod ({ cls := "java/util/HashMap", name := "putIfAbsent", desc := "(Ljava/lang/Object;Ljava/lang/Object;)Ljava/lang/Object;" } : Jvm.MethodName)) ∈ lw_all := lw_g (lw_at lw_m2 159 rfl) rfl
theorem q444 : (Jvm.Cond.selects "java/util/HashMap" ({ cls := "java/util/HashMap", name := "putIfAbsent", desc := "(Ljava/lang/Object;Ljava/lang/Object;)Ljava/lang/Object;" } : Jvm.MethodName) ({ cls := "java/util/HashMap", name := "putIfAbsent", desc := "(Ljava/lang/Object;Ljava/lang/Object;)Ljava/lang/Object;" } : Jvm.MethodName)) ∈ lw_all := lw_g (lw_at lw_m2 160 rfl) rfl
theorem q445 : (Jvm.Cond.code ({ cls := "java/util/HashMap", name := "putIfAbsent", desc := "(Ljava/lang/Object;Ljava/lang/Object;)Ljava/lang/Object;" } : Jvm.MethodName) prog_54_method_31_code (3 : Nat) (Option.some (Jvm.ClassFile.FieldType.object "java/lang/Object"))) ∈ lw_all := lw_g (lw_at lw_m2 161 rfl) rfl
theorem q446 : (Jvm.Cond.methodLink "java/util/HashMap" (149 : Nat) ({ cls := "java/util/HashMap", name := "hash", desc := "(Ljava/lang/Object;)I" } : Jvm.MethodName)) ∈ lw_all := lw_g (lw_at lw_m2 162 rfl) rfl
theorem q447 : (Jvm.Cond.static ({ cls := "java/util/HashMap", name := "hash", desc := "(Ljava/lang/Object;)I" } : Jvm.MethodName)) ∈ lw_all := lw_g (lw_at lw_m2 163 rfl) rfl
theorem q448 : (Jvm.Cond.code ({ cls := "java/util/HashMap", name := "hash", desc := "(Ljava/lang/Object;)I" } : Jvm.MethodName) prog_54_method_1_code (2 : Nat) (Option.some Jvm.ClassFile.FieldType.int)) ∈ lw_all := lw_g (lw_at lw_m2 164 rfl) rfl
theorem q450 : (Jvm.Cond.methodLink "java/util/HashMap" (1 : Nat) ({ cls := "java/lang/Object", name := "hashCode", desc := "()I" } : Jvm.MethodName)) ∈ lw_all := lw_g (lw_at lw_m2 166 rfl) rfl
theorem q490 : (Jvm.Cond.methodLink "java/util/HashMap" (152 : Nat) ({ cls := "java/util/HashMap", name := "putVal", desc := "(ILjava/lang/Object;Ljava/lang/Object;ZZ)Ljava/lang/Object;" } : Jvm.MethodName)) ∈ lw_all := lw_g (lw_at lw_m2 206 rfl) rfl
theorem q491 : (Jvm.Cond.instanceMethod ({ cls := "java/util/HashMap", name := "putVal", desc := "(ILjava/lang/Object;Ljava/lang/Object;ZZ)Ljava/lang/Object;" } : Jvm.MethodName)) ∈ lw_all := lw_g (lw_at lw_m2 207 rfl) rfl
theorem q492 : (Jvm.Cond.selects "java/util/HashMap" ({ cls := "java/util/HashMap", name := "putVal", desc := "(ILjava/lang/Object;Ljava/lang/Object;ZZ)Ljava/lang/Object;" } : Jvm.MethodName) ({ cls := "java/util/HashMap", name := "putVal", desc := "(ILjava/lang/Object;Ljava/lang/Object;ZZ)Ljava/lang/Object;" } : Jvm.MethodName)) ∈ lw_all := lw_g (lw_at lw_m2 208 rfl) rfl
theorem q493 : (Jvm.Cond.code ({ cls := "java/util/HashMap", name := "putVal", desc := "(ILjava/lang/Object;Ljava/lang/Object;ZZ)Ljava/lang/Object;" } : Jvm.MethodName) prog_54_method_16_code (13 : Nat) (Option.some (Jvm.ClassFile.FieldType.object "java/lang/Object"))) ∈ lw_all := lw_g (lw_at lw_m2 209 rfl) rfl
theorem q494 : (Jvm.Cond.methodLink "java/util/HashMap" (117 : Nat) ({ cls := "java/util/HashMap", name := "resize", desc := "()[Ljava/util/HashMap$Node;" } : Jvm.MethodName)) ∈ lw_all := lw_g (lw_at lw_m2 210 rfl) rfl
theorem q495 : (Jvm.Cond.instanceMethod ({ cls := "java/util/HashMap", name := "resize", desc := "()[Ljava/util/HashMap$Node;" } : Jvm.MethodName)) ∈ lw_all := lw_g (lw_at lw_m2 211 rfl) rfl
theorem q496 : (Jvm.Cond.selects "java/util/HashMap" ({ cls := "java/util/HashMap", name := "resize", desc := "()[Ljava/util/HashMap$Node;" } : Jvm.MethodName) ({ cls := "java/util/HashMap", name := "resize", desc := "()[Ljava/util/HashMap$Node;" } : Jvm.MethodName)) ∈ lw_all := lw_g (lw_at lw_m2 212 rfl) rfl
theorem q497 : (Jvm.Cond.code ({ cls := "java/util/HashMap", name := "resize", desc := "()[Ljava/util/HashMap$Node;" } : Jvm.MethodName) prog_54_method_17_code (14 : Nat) (Option.some (Jvm.ClassFile.FieldType.array (Jvm.ClassFile.FieldType.object "java/util/HashMap$Node")))) ∈ lw_all := lw_g (lw_at lw_m2 213 rfl) rfl
theorem q498 : (Jvm.Cond.constant "java/util/HashMap" (42 : Nat) (1073741824 : Int32)) ∈ lw_all := lw_g (lw_at lw_m2 214 rfl) rfl
theorem q499 : (Jvm.Cond.constant "java/util/HashMap" (209 : Nat) (2147483647 : Int32)) ∈ lw_all := lw_g (lw_at lw_m2 215 rfl) rfl
theorem q500 : (Jvm.Cond.constantFloat "java/util/HashMap" (210 : Nat) (1317011456 : UInt32)) ∈ lw_all := lw_g (lw_at lw_m2 216 rfl) rfl
theorem q501 : (Jvm.Cond.classLink "java/util/HashMap" (163 : Nat) "java/util/HashMap$Node") ∈ lw_all := lw_g (lw_at lw_m2 217 rfl) rfl
theorem q503 : (Jvm.Cond.classLink "java/util/HashMap" (180 : Nat) "java/util/HashMap$TreeNode") ∈ lw_all := lw_g (lw_at lw_m2 219 rfl) rfl
theorem q504 : (Jvm.Cond.methodLink "java/util/HashMap" (211 : Nat) ({ cls := "java/util/HashMap$TreeNode", name := "split", desc := "(Ljava/util/HashMap;[Ljava/util/HashMap$Node;II)V" } : Jvm.MethodName)) ∈ lw_all := lw_g (lw_at lw_m2 220 rfl) rfl
theorem q514 : (Jvm.Cond.instanceMethod ({ cls := "java/util/HashMap", name := "replacementNode", desc := "(Ljava/util/HashMap$Node;Ljava/util/HashMap$Node;)Ljava/util/HashMap$Node;" } : Jvm.MethodName)) ∈ lw_all := lw_g (lw_at lw_m2 230 rfl) rfl
theorem q515 : (Jvm.Cond.selects "java/util/HashMap" ({ cls := "java/util/HashMap", name := "replacementNode", desc := "(Ljava/util/HashMap$Node;Ljava/util/HashMap$Node;)Ljava/util/HashMap$Node;" } : Jvm.MethodName) ({ cls := "java/util/HashMap", name := "replacementNode", desc := "(Ljava/util/HashMap$Node;Ljava/util/HashMap$Node;)Ljava/util/HashMap$Node;" } : Jvm.MethodName)) ∈ lw_all := lw_g (lw_at lw_m2 231 rfl) rfl
theorem q516 : (Jvm.Cond.code ({ cls := "java/util/HashMap", name := "replacementNode", desc := "(Ljava/util/HashMap$Node;Ljava/util/HashMap$Node;)Ljava/util/HashMap$Node;" } : Jvm.MethodName) prog_54_method_47_code (3 : Nat) (Option.some (Jvm.ClassFile.FieldType.object "java/util/HashMap$Node"))) ∈ lw_all := lw_g (lw_at lw_m2 232 rfl) rfl
theorem q518 : (Jvm.Cond.methodLink "java/util/HashMap" (375 : Nat) ({ cls := "java/util/HashMap$Node", name := "<init>", desc := "(ILjava/lang/Object;Ljava/lang/Object;Ljava/util/HashMap$Node;)V" } : Jvm.MethodName)) ∈ lw_all := lw_g (lw_at lw_m2 234 rfl) rfl
theorem q525 : (Jvm.Cond.fieldLink "java/util/HashMap" (168 : Nat) "java/util/HashMap$Node" "hash" "I") ∈ lw_all := lw_g (lw_at lw_m3 1 rfl) rfl
theorem q529 : (Jvm.Cond.fieldLink "java/util/HashMap" (170 : Nat) "java/util/HashMap$Node" "key" "Ljava/lang/Object;") ∈ lw_all := lw_g (lw_at lw_m3 5 rfl) rfl
theorem q531 : (Jvm.Cond.fieldLink "java/util/HashMap" (162 : Nat) "java/util/HashMap$Node" "value" "Ljava/lang/Object;") ∈ lw_all := lw_g (lw_at lw_m3 7 rfl) rfl
theorem q536 : (Jvm.Cond.fieldLink "java/util/HashMap" (177 : Nat) "java/util/HashMap$Node" "next" "Ljava/util/HashMap$Node;") ∈ lw_all := lw_g (lw_at lw_m3 12 rfl) rfl
theorem q537 : (Jvm.Cond.fieldLink "java/util/HashMap" (223 : Nat) "java/util/HashMap$TreeNode" "next" "Ljava/util/HashMap$Node;") ∈ lw_all := lw_g (lw_at lw_m3 13 rfl) rfl
theorem q552 : (Jvm.Cond.static ({ cls := "java/util/HashMap", name := "comparableClassFor", desc := "(Ljava/lang/Object;)Ljava/lang/Class;" } : Jvm.MethodName)) ∈ lw_all := lw_g (lw_at lw_m3 28 rfl) rfl
theorem q553 : (Jvm.Cond.code ({ cls := "java/util/HashMap", name := "comparableClassFor", desc := "(Ljava/lang/Object;)Ljava/lang/Class;" } : Jvm.MethodName) prog_54_method_2_code (9 : Nat) (Option.some (Jvm.ClassFile.FieldType.object "java/lang/Class"))) ∈ lw_all := lw_g (lw_at lw_m3 29 rfl) rfl
theorem q554 : (Jvm.Cond.classLink "java/util/HashMap" (7 : Nat) "java/lang/Comparable") ∈ lw_all := lw_g (lw_at lw_m3 30 rfl) rfl
theorem q555 : (Jvm.Cond.methodLink "java/util/HashMap" (9 : Nat) ({ cls := "java/lang/Object", name := "getClass", desc := "()Ljava/lang/Class;" } : Jvm.MethodName)) ∈ lw_all := lw_g (lw_at lw_m3 31 rfl) rfl
theorem q588 : (Jvm.Cond.selects "java/util/HashMap" ({ cls := "java/lang/Object", name := "getClass", desc := "()Ljava/lang/Class;" } : Jvm.MethodName) ({ cls := "java/lang/Object", name := "getClass", desc := "()Ljava/lang/Class;" } : Jvm.MethodName)) ∈ lw_all := lw_g (lw_at lw_m3 64 rfl) rfl
theorem q593 : (Jvm.Cond.classLink "java/util/HashMap" (13 : Nat) "java/lang/String") ∈ lw_all := lw_g (lw_at lw_m3 69 rfl) rfl
theorem q595 : (Jvm.Cond.static ({ cls := "java/util/HashMap", name := "compareComparables", desc := "(Ljava/lang/Class;Ljava/lang/Object;Ljava/lang/Object;)I" } : Jvm.MethodName)) ∈ lw_all := lw_g (lw_at lw_m3 71 rfl) rfl
theorem q596 : (Jvm.Cond.code ({ cls := "java/util/HashMap", name := "compareComparables", desc := "(Ljava/lang/Class;Ljava/lang/Object;Ljava/lang/Object;)I" } : Jvm.MethodName) prog_54_method_3_code (3 : Nat) (Option.some Jvm.ClassFile.FieldType.int)) ∈ lw_all := lw_g (lw_at lw_m3 72 rfl) rfl
theorem q597 : (Jvm.Cond.interfaceEntry "java/util/HashMap" (30 : Nat)) ∈ lw_tbl := lw_at lw_m3 73 rfl
theorem q598 : (Jvm.Cond.methodLink "java/util/HashMap" (30 : Nat) ({ cls := "java/lang/Comparable", name := "compareTo", desc := "(Ljava/lang/Object;)I" } : Jvm.MethodName)) ∈ lw_all := lw_g (lw_at lw_m3 74 rfl) rfl
theorem q629 : (Jvm.Cond.methodLink "java/util/HashMap" (186 : Nat) ({ cls := "java/util/HashMap", name := "newNode", desc := "(ILjava/lang/Object;Ljava/lang/Object;Ljava/util/HashMap$Node;)Ljava/util/HashMap$Node;" } : Jvm.MethodName)) ∈ lw_all := lw_g (lw_at lw_m3 105 rfl) rfl
theorem q630 : (Jvm.Cond.instanceMethod ({ cls := "java/util/HashMap", name := "newNode", desc := "(ILjava/lang/Object;Ljava/lang/Object;Ljava/util/HashMap$Node;)Ljava/util/HashMap$Node;" } : Jvm.MethodName)) ∈ lw_all := lw_g (lw_at lw_m3 106 rfl) rfl
theorem q631 : (Jvm.Cond.selects "java/util/HashMap" ({ cls := "java/util/HashMap", name := "newNode", desc := "(ILjava/lang/Object;Ljava/lang/Object;Ljava/util/HashMap$Node;)Ljava/util/HashMap$Node;" } : Jvm.MethodName) ({ cls := "java/util/HashMap", name := "newNode", desc := "(ILjava/lang/Object;Ljava/lang/Object;Ljava/util/HashMap$Node;)Ljava/util/HashMap$Node;" } : Jvm.MethodName)) ∈ lw_all := lw_g (lw_at lw_m3 107 rfl) rfl
theorem q632 : (Jvm.Cond.code ({ cls := "java/util/HashMap", name := "newNode", desc := "(ILjava/lang/Object;Ljava/lang/Object;Ljava/util/HashMap$Node;)Ljava/util/HashMap$Node;" } : Jvm.MethodName) prog_54_method_46_code (5 : Nat) (Option.some (Jvm.ClassFile.FieldType.object "java/util/HashMap$Node"))) ∈ lw_all := lw_g (lw_at lw_m3 108 rfl) rfl
theorem q634 : (Jvm.Cond.methodLink "java/util/HashMap" (173 : Nat) ({ cls := "java/lang/Object", name := "equals", desc := "(Ljava/lang/Object;)Z" } : Jvm.MethodName)) ∈ lw_all := lw_g (lw_at lw_m3 110 rfl) rfl
theorem q675 : (Jvm.Cond.methodLink "java/util/HashMap" (190 : Nat) ({ cls := "java/util/HashMap$TreeNode", name := "putTreeVal", desc := "(Ljava/util/HashMap;[Ljava/util/HashMap$Node;ILjava/lang/Object;Ljava/lang/Object;)Ljava/util/HashMap$TreeNode;" } : Jvm.MethodName)) ∈ lw_all := lw_g (lw_at lw_m3 151 rfl) rfl
theorem q689 : (Jvm.Cond.instanceMethod ({ cls := "java/util/HashMap", name := "newTreeNode", desc := "(ILjava/lang/Object;Ljava/lang/Object;Ljava/util/HashMap$Node;)Ljava/util/HashMap$TreeNode;" } : Jvm.MethodName)) ∈ lw_all := lw_g (lw_at lw_m3 165 rfl) rfl
theorem q690 : (Jvm.Cond.selects "java/util/HashMap" ({ cls := "java/util/HashMap", name := "newTreeNode", desc := "(ILjava/lang/Object;Ljava/lang/Object;Ljava/util/HashMap$Node;)Ljava/util/HashMap$TreeNode;" } : Jvm.MethodName) ({ cls := "java/util/HashMap", name := "newTreeNode", desc := "(ILjava/lang/Object;Ljava/lang/Object;Ljava/util/HashMap$Node;)Ljava/util/HashMap$TreeNode;" } : Jvm.MethodName)) ∈ lw_all := lw_g (lw_at lw_m3 166 rfl) rfl
theorem q691 : (Jvm.Cond.code ({ cls := "java/util/HashMap", name := "newTreeNode", desc := "(ILjava/lang/Object;Ljava/lang/Object;Ljava/util/HashMap$Node;)Ljava/util/HashMap$TreeNode;" } : Jvm.MethodName) prog_54_method_48_code (5 : Nat) (Option.some (Jvm.ClassFile.FieldType.object "java/util/HashMap$TreeNode"))) ∈ lw_all := lw_g (lw_at lw_m3 167 rfl) rfl
theorem q693 : (Jvm.Cond.methodLink "java/util/HashMap" (378 : Nat) ({ cls := "java/util/HashMap$TreeNode", name := "<init>", desc := "(ILjava/lang/Object;Ljava/lang/Object;Ljava/util/HashMap$Node;)V" } : Jvm.MethodName)) ∈ lw_all := lw_g (lw_at lw_m3 169 rfl) rfl
theorem q704 : (Jvm.Cond.fieldLink "java/util/HashMap" (219 : Nat) "java/util/HashMap$TreeNode" "prev" "Ljava/util/HashMap$TreeNode;") ∈ lw_all := lw_g (lw_at lw_m3 180 rfl) rfl
theorem q725 : (Jvm.Cond.methodLink "java/util/HashMap" (194 : Nat) ({ cls := "java/util/HashMap", name := "treeifyBin", desc := "([Ljava/util/HashMap$Node;I)V" } : Jvm.MethodName)) ∈ lw_all := lw_g (lw_at lw_m3 201 rfl) rfl
theorem q726 : (Jvm.Cond.instanceMethod ({ cls := "java/util/HashMap", name := "treeifyBin", desc := "([Ljava/util/HashMap$Node;I)V" } : Jvm.MethodName)) ∈ lw_all := lw_g (lw_at lw_m3 202 rfl) rfl
theorem q727 : (Jvm.Cond.selects "java/util/HashMap" ({ cls := "java/util/HashMap", name := "treeifyBin", desc := "([Ljava/util/HashMap$Node;I)V" } : Jvm.MethodName) ({ cls := "java/util/HashMap", name := "treeifyBin", desc := "([Ljava/util/HashMap$Node;I)V" } : Jvm.MethodName)) ∈ lw_all := lw_g (lw_at lw_m3 203 rfl) rfl
theorem q728 : (Jvm.Cond.code ({ cls := "java/util/HashMap", name := "treeifyBin", desc := "([Ljava/util/HashMap$Node;I)V" } : Jvm.MethodName) prog_54_method_18_code (9 : Nat) (Option.none : Option Jvm.ClassFile.FieldType)) ∈ lw_all := lw_g (lw_at lw_m3 204 rfl) rfl
theorem q729 : (Jvm.Cond.methodLink "java/util/HashMap" (215 : Nat) ({ cls := "java/util/HashMap", name := "replacementTreeNode", desc := "(Ljava/util/HashMap$Node;Ljava/util/HashMap$Node;)Ljava/util/HashMap$TreeNode;" } : Jvm.MethodName)) ∈ lw_all := lw_g (lw_at lw_m3 205 rfl) rfl
theorem q730 : (Jvm.Cond.instanceMethod ({ cls := "java/util/HashMap", name := "replacementTreeNode", desc := "(Ljava/util/HashMap$Node;Ljava/util/HashMap$Node;)Ljava/util/HashMap$TreeNode;" } : Jvm.MethodName)) ∈ lw_all := lw_g (lw_at lw_m3 206 rfl) rfl
theorem q731 : (Jvm.Cond.selects "java/util/HashMap" ({ cls := "java/util/HashMap", name := "replacementTreeNode", desc := "(Ljava/util/HashMap$Node;Ljava/util/HashMap$Node;)Ljava/util/HashMap$TreeNode;" } : Jvm.MethodName) ({ cls := "java/util/HashMap", name := "replacementTreeNode", desc := "(Ljava/util/HashMap$Node;Ljava/util/HashMap$Node;)Ljava/util/HashMap$TreeNode;" } : Jvm.MethodName)) ∈ lw_all := lw_g (lw_at lw_m3 207 rfl) rfl
theorem q732 : (Jvm.Cond.code ({ cls := "java/util/HashMap", name := "replacementTreeNode", desc := "(Ljava/util/HashMap$Node;Ljava/util/HashMap$Node;)Ljava/util/HashMap$TreeNode;" } : Jvm.MethodName) prog_54_method_49_code (3 : Nat) (Option.some (Jvm.ClassFile.FieldType.object "java/util/HashMap$TreeNode"))) ∈ lw_all := lw_g (lw_at lw_m3 208 rfl) rfl
theorem q733 : (Jvm.Cond.methodLink "java/util/HashMap" (224 : Nat) ({ cls := "java/util/HashMap$TreeNode", name := "treeify", desc := "([Ljava/util/HashMap$Node;)V" } : Jvm.MethodName)) ∈ lw_all := lw_g (lw_at lw_m3 209 rfl) rfl
theorem q734 : (Jvm.Cond.methodLink "java/util/HashMap" (198 : Nat) ({ cls := "java/util/HashMap", name := "afterNodeAccess", desc := "(Ljava/util/HashMap$Node;)V" } : Jvm.MethodName)) ∈ lw_all := lw_g (lw_at lw_m3 210 rfl) rfl
theorem q735 : (Jvm.Cond.instanceMethod ({ cls := "java/util/HashMap", name := "afterNodeAccess", desc := "(Ljava/util/HashMap$Node;)V" } : Jvm.MethodName)) ∈ lw_all := lw_g (lw_at lw_m3 211 rfl) rfl
theorem q736 : (Jvm.Cond.selects "java/util/HashMap" ({ cls := "java/util/HashMap", name := "afterNodeAccess", desc := "(Ljava/util/HashMap$Node;)V" } : Jvm.MethodName) ({ cls := "java/util/HashMap", name := "afterNodeAccess", desc := "(Ljava/util/HashMap$Node;)V" } : Jvm.MethodName)) ∈ lw_all := lw_g (lw_at lw_m3 212 rfl) rfl
theorem q737 : (Jvm.Cond.code ({ cls := "java/util/HashMap", name := "afterNodeAccess", desc := "(Ljava/util/HashMap$Node;)V" } : Jvm.MethodName) prog_54_method_51_code (2 : Nat) (Option.none : Option Jvm.ClassFile.FieldType)) ∈ lw_all := lw_g (lw_at lw_m3 213 rfl) rfl
theorem q738 : (Jvm.Cond.methodLink "java/util/HashMap" (205 : Nat) ({ cls := "java/util/HashMap", name := "afterNodeInsertion", desc := "(Z)V" } : Jvm.MethodName)) ∈ lw_all := lw_g (lw_at lw_m3 214 rfl) rfl
theorem q739 : (Jvm.Cond.instanceMethod ({ cls := "java/util/HashMap", name := "afterNodeInsertion", desc := "(Z)V" } : Jvm.MethodName)) ∈ lw_all := lw_g (lw_at lw_m3 215 rfl) rfl
theorem q740 : (Jvm.Cond.selects "java/util/HashMap" ({ cls := "java/util/HashMap", name := "afterNodeInsertion", desc := "(Z)V" } : Jvm.MethodName) ({ cls := "java/util/HashMap", name := "afterNodeInsertion", desc := "(Z)V" } : Jvm.MethodName)) ∈ lw_all := lw_g (lw_at lw_m3 216 rfl) rfl
theorem q741 : (Jvm.Cond.code ({ cls := "java/util/HashMap", name := "afterNodeInsertion", desc := "(Z)V" } : Jvm.MethodName) prog_54_method_52_code (2 : Nat) (Option.none : Option Jvm.ClassFile.FieldType)) ∈ lw_all := lw_g (lw_at lw_m3 217 rfl) rfl
theorem q2668 : (Jvm.Cond.castable "java/util/HashMap" "java/lang/Object") ∈ lw_tbl := lw_at lw_m11 224 rfl
theorem in_J23 : ∀ w ∈ wsJ230, w ∈ lw_all := lw_in wsJ230 [405, 407, 393, 395, 397, 399, 401, 403] (by decide +kernel) (by decide +kernel)
/-! java/util/HashMap$Node -/
set_option maxRecDepth 100000
def RJ24 : String := "java/util/HashMap$Node"
def TJ24 : u_T := fun k => match k with
  | 0 => ("java/util/HashMap$Node", "hash", "I", true)
  | 1 => ("java/util/HashMap$Node", "key", "Ljava/lang/Object;", true)
  | 2 => ("java/util/HashMap$Node", "value", "Ljava/lang/Object;", false)
  | _ => ("java/util/HashMap$Node", "next", "Ljava/util/HashMap$Node;", false)
def tyJ24 : Nat → FieldType := fun k => match k with
  | 0 => .int
  | 1 => .object "java/lang/Object"
  | 2 => .object "java/lang/Object"
  | _ => .object "java/util/HashMap$Node"
abbrev wsJ240 : List Cond := u_ws RJ24 TJ24 4
theorem nmJ24 : ∀ a, a < 4 → ∀ b, b < 4 → a ≠ b → (TJ24 a).2.1 ≠ (TJ24 b).2.1 := by decide +kernel
theorem tyJ24_ok : ∀ k, k < 4 → parseFieldDescriptor (TJ24 k).2.2.1 = some (tyJ24 k) := by decide +kernel
abbrev cJ24_init : ByteArray := prog_55_method_1_code
def yJ24_init : MethodName := ⟨RJ24, "<init>", "(ILjava/lang/Object;Ljava/lang/Object;Ljava/util/HashMap$Node;)V"⟩
def dkwJ24_init_1 : List UInt8 := [181, 0, 20, 177]
abbrev dktJ24_init_1 : List UInt8 := dkwJ24_init_1 ++ []
def dkwJ24_init_0 : List UInt8 := [42, 183, 0, 1, 42, 27, 181, 0, 7, 42, 44, 181, 0, 13, 42, 45, 181, 0, 17, 42, 25, 4]
abbrev dktJ24_init_0 : List UInt8 := dkwJ24_init_0 ++ dktJ24_init_1
theorem dksJ24_init_0 : cJ24_init.data.toList.drop 0 = dktJ24_init_0 := by decide +kernel
theorem dksJ24_init_1 : cJ24_init.data.toList.drop 22 = dktJ24_init_1 := dk_seg dksJ24_init_0 22 rfl rfl
theorem dJ24_init_0 : decode cJ24_init 0 = .ok (.aload_n 0, 1) := dk_42 (dk_at dksJ24_init_0 0 rfl rfl)
theorem dJ24_init_1 : decode cJ24_init 1 = .ok (.invokespecial 1, 3) := dk_183 0 1 (dk_at dksJ24_init_0 1 rfl rfl)
theorem dJ24_init_4 : decode cJ24_init 4 = .ok (.aload_n 0, 1) := dk_42 (dk_at dksJ24_init_0 4 rfl rfl)
theorem dJ24_init_5 : decode cJ24_init 5 = .ok (.iload_n 1, 1) := dk_27 (dk_at dksJ24_init_0 5 rfl rfl)
theorem dJ24_init_6 : decode cJ24_init 6 = .ok (.putfield 7, 3) := dk_181 0 7 (dk_at dksJ24_init_0 6 rfl rfl)
theorem dJ24_init_9 : decode cJ24_init 9 = .ok (.aload_n 0, 1) := dk_42 (dk_at dksJ24_init_0 9 rfl rfl)
theorem dJ24_init_10 : decode cJ24_init 10 = .ok (.aload_n 2, 1) := dk_44 (dk_at dksJ24_init_0 10 rfl rfl)
theorem dJ24_init_11 : decode cJ24_init 11 = .ok (.putfield 13, 3) := dk_181 0 13 (dk_at dksJ24_init_0 11 rfl rfl)
theorem dJ24_init_14 : decode cJ24_init 14 = .ok (.aload_n 0, 1) := dk_42 (dk_at dksJ24_init_0 14 rfl rfl)
theorem dJ24_init_15 : decode cJ24_init 15 = .ok (.aload_n 3, 1) := dk_45 (dk_at dksJ24_init_0 15 rfl rfl)
theorem dJ24_init_16 : decode cJ24_init 16 = .ok (.putfield 17, 3) := dk_181 0 17 (dk_at dksJ24_init_0 16 rfl rfl)
theorem dJ24_init_19 : decode cJ24_init 19 = .ok (.aload_n 0, 1) := dk_42 (dk_at dksJ24_init_0 19 rfl rfl)
theorem dJ24_init_20 : decode cJ24_init 20 = .ok (.aload 4, 2) := dk_25 4 (dk_at dksJ24_init_0 20 rfl rfl)
theorem dJ24_init_22 : decode cJ24_init 22 = .ok (.putfield 20, 3) := dk_181 0 20 (dk_at dksJ24_init_1 0 rfl rfl)
theorem dJ24_init_25 : decode cJ24_init 25 = .ok (.return_, 1) := dk_177 (dk_at dksJ24_init_1 3 rfl rfl)
theorem q94 : (Jvm.Cond.initialized "java/util/HashMap$Node") ∈ lw_all := lw_g (lw_at lw_m1 50 rfl) rfl
theorem q517 : (Jvm.Cond.instantiable "java/util/HashMap$Node" (4 : Nat)) ∈ lw_all := lw_g (lw_at lw_m2 233 rfl) rfl
theorem q519 : (Jvm.Cond.instanceMethod ({ cls := "java/util/HashMap$Node", name := "<init>", desc := "(ILjava/lang/Object;Ljava/lang/Object;Ljava/util/HashMap$Node;)V" } : Jvm.MethodName)) ∈ lw_all := lw_g (lw_at lw_m2 235 rfl) rfl
theorem q520 : (Jvm.Cond.code ({ cls := "java/util/HashMap$Node", name := "<init>", desc := "(ILjava/lang/Object;Ljava/lang/Object;Ljava/util/HashMap$Node;)V" } : Jvm.MethodName) prog_55_method_1_code (5 : Nat) (Option.none : Option Jvm.ClassFile.FieldType)) ∈ lw_all := lw_g (lw_at lw_m2 236 rfl) rfl
theorem q521 : (Jvm.Cond.methodLink "java/util/HashMap$Node" (1 : Nat) ({ cls := "java/lang/Object", name := "<init>", desc := "()V" } : Jvm.MethodName)) ∈ lw_all := lw_g (lw_at lw_m2 237 rfl) rfl
theorem q522 : (Jvm.Cond.fieldLink "java/util/HashMap$Node" (7 : Nat) "java/util/HashMap$Node" "hash" "I") ∈ lw_all := lw_g (lw_at lw_m2 238 rfl) rfl
theorem q526 : (Jvm.Cond.fieldLink "java/util/HashMap$Node" (13 : Nat) "java/util/HashMap$Node" "key" "Ljava/lang/Object;") ∈ lw_all := lw_g (lw_at lw_m3 2 rfl) rfl
theorem q530 : (Jvm.Cond.fieldLink "java/util/HashMap$Node" (17 : Nat) "java/util/HashMap$Node" "value" "Ljava/lang/Object;") ∈ lw_all := lw_g (lw_at lw_m3 6 rfl) rfl
theorem q532 : (Jvm.Cond.fieldLink "java/util/HashMap$Node" (20 : Nat) "java/util/HashMap$Node" "next" "Ljava/util/HashMap$Node;") ∈ lw_all := lw_g (lw_at lw_m3 8 rfl) rfl
theorem q538 : (Jvm.Cond.laysFinal "java/util/HashMap$Node" "java/util/HashMap$Node" "hash" "I") ∈ lw_all := lw_g (lw_at lw_m3 14 rfl) rfl
theorem q539 : (Jvm.Cond.soleField "java/util/HashMap$Node" "hash") ∈ lw_all := lw_g (lw_at lw_m3 15 rfl) rfl
theorem q540 : (Jvm.Cond.laysFinal "java/util/HashMap$Node" "java/util/HashMap$Node" "key" "Ljava/lang/Object;") ∈ lw_all := lw_g (lw_at lw_m3 16 rfl) rfl
theorem q541 : (Jvm.Cond.soleField "java/util/HashMap$Node" "key") ∈ lw_all := lw_g (lw_at lw_m3 17 rfl) rfl
theorem q542 : (Jvm.Cond.lays "java/util/HashMap$Node" "java/util/HashMap$Node" "value" "Ljava/lang/Object;") ∈ lw_all := lw_g (lw_at lw_m3 18 rfl) rfl
theorem q543 : (Jvm.Cond.soleField "java/util/HashMap$Node" "value") ∈ lw_all := lw_g (lw_at lw_m3 19 rfl) rfl
theorem q544 : (Jvm.Cond.lays "java/util/HashMap$Node" "java/util/HashMap$Node" "next" "Ljava/util/HashMap$Node;") ∈ lw_all := lw_g (lw_at lw_m3 20 rfl) rfl
theorem q545 : (Jvm.Cond.soleField "java/util/HashMap$Node" "next") ∈ lw_all := lw_g (lw_at lw_m3 21 rfl) rfl
theorem q546 : (Jvm.Cond.superclass "java/util/HashMap$Node" "java/lang/Object") ∈ lw_all := lw_g (lw_at lw_m3 22 rfl) rfl
theorem q589 : (Jvm.Cond.selects "java/util/HashMap$Node" ({ cls := "java/lang/Object", name := "getClass", desc := "()Ljava/lang/Class;" } : Jvm.MethodName) ({ cls := "java/lang/Object", name := "getClass", desc := "()Ljava/lang/Class;" } : Jvm.MethodName)) ∈ lw_all := lw_g (lw_at lw_m3 65 rfl) rfl
theorem q2638 : (Jvm.Cond.castable "java/util/HashMap$Node" "java/lang/Object") ∈ lw_tbl := lw_at lw_m11 194 rfl
theorem in_J24 : ∀ w ∈ wsJ240, w ∈ lw_all := lw_in wsJ240 [538, 540, 542, 544] (by decide +kernel) (by decide +kernel)
/-! java/util/LinkedHashMap$Entry -/
set_option maxRecDepth 100000
def RJ25 : String := "java/util/LinkedHashMap$Entry"
abbrev cJ25_init : ByteArray := prog_58_method_1_code
def yJ25_init : MethodName := ⟨RJ25, "<init>", "(ILjava/lang/Object;Ljava/lang/Object;Ljava/util/HashMap$Node;)V"⟩
def dkwJ25_init_0 : List UInt8 := [42, 27, 44, 45, 25, 4, 183, 0, 1, 177]
abbrev dktJ25_init_0 : List UInt8 := dkwJ25_init_0 ++ []
theorem dksJ25_init_0 : cJ25_init.data.toList.drop 0 = dktJ25_init_0 := by decide +kernel
theorem dJ25_init_0 : decode cJ25_init 0 = .ok (.aload_n 0, 1) := dk_42 (dk_at dksJ25_init_0 0 rfl rfl)
theorem dJ25_init_1 : decode cJ25_init 1 = .ok (.iload_n 1, 1) := dk_27 (dk_at dksJ25_init_0 1 rfl rfl)
theorem dJ25_init_2 : decode cJ25_init 2 = .ok (.aload_n 2, 1) := dk_44 (dk_at dksJ25_init_0 2 rfl rfl)
theorem dJ25_init_3 : decode cJ25_init 3 = .ok (.aload_n 3, 1) := dk_45 (dk_at dksJ25_init_0 3 rfl rfl)
theorem dJ25_init_4 : decode cJ25_init 4 = .ok (.aload 4, 2) := dk_25 4 (dk_at dksJ25_init_0 4 rfl rfl)
theorem dJ25_init_6 : decode cJ25_init 6 = .ok (.invokespecial 1, 3) := dk_183 0 1 (dk_at dksJ25_init_0 6 rfl rfl)
theorem dJ25_init_9 : decode cJ25_init 9 = .ok (.return_, 1) := dk_177 (dk_at dksJ25_init_0 9 rfl rfl)
theorem q95 : (Jvm.Cond.initialized "java/util/LinkedHashMap$Entry") ∈ lw_all := lw_g (lw_at lw_m1 51 rfl) rfl
theorem q697 : (Jvm.Cond.instanceMethod ({ cls := "java/util/LinkedHashMap$Entry", name := "<init>", desc := "(ILjava/lang/Object;Ljava/lang/Object;Ljava/util/HashMap$Node;)V" } : Jvm.MethodName)) ∈ lw_all := lw_g (lw_at lw_m3 173 rfl) rfl
theorem q698 : (Jvm.Cond.code ({ cls := "java/util/LinkedHashMap$Entry", name := "<init>", desc := "(ILjava/lang/Object;Ljava/lang/Object;Ljava/util/HashMap$Node;)V" } : Jvm.MethodName) prog_58_method_1_code (5 : Nat) (Option.none : Option Jvm.ClassFile.FieldType)) ∈ lw_all := lw_g (lw_at lw_m3 174 rfl) rfl
theorem q699 : (Jvm.Cond.methodLink "java/util/LinkedHashMap$Entry" (1 : Nat) ({ cls := "java/util/HashMap$Node", name := "<init>", desc := "(ILjava/lang/Object;Ljava/lang/Object;Ljava/util/HashMap$Node;)V" } : Jvm.MethodName)) ∈ lw_all := lw_g (lw_at lw_m3 175 rfl) rfl
theorem q717 : (Jvm.Cond.soleField "java/util/LinkedHashMap$Entry" "before") ∈ lw_all := lw_g (lw_at lw_m3 193 rfl) rfl
theorem q719 : (Jvm.Cond.soleField "java/util/LinkedHashMap$Entry" "after") ∈ lw_all := lw_g (lw_at lw_m3 195 rfl) rfl
/-! java/lang/Object -/
set_option maxRecDepth 100000
def RJ27 : String := "java/lang/Object"
abbrev cJ27_init : ByteArray := object_method_1_code
def yJ27_init : MethodName := ⟨RJ27, "<init>", "()V"⟩
theorem dJ27_init_0 : decode cJ27_init 0 = .ok (.return_, 1) := by decide +kernel
abbrev cJ27_equals : ByteArray := object_method_4_code
def yJ27_equals : MethodName := ⟨RJ27, "equals", "(Ljava/lang/Object;)Z"⟩
def dkwJ27_equals_0 : List UInt8 := [42, 43, 166, 0, 7, 4, 167, 0, 4, 3, 172]
abbrev dktJ27_equals_0 : List UInt8 := dkwJ27_equals_0 ++ []
theorem dksJ27_equals_0 : cJ27_equals.data.toList.drop 0 = dktJ27_equals_0 := by decide +kernel
theorem dJ27_equals_0 : decode cJ27_equals 0 = .ok (.aload_n 0, 1) := dk_42 (dk_at dksJ27_equals_0 0 rfl rfl)
theorem dJ27_equals_1 : decode cJ27_equals 1 = .ok (.aload_n 1, 1) := dk_43 (dk_at dksJ27_equals_0 1 rfl rfl)
theorem dJ27_equals_2 : decode cJ27_equals 2 = .ok (.if_acmp .ne 7, 3) := dk_166 0 7 (dk_at dksJ27_equals_0 2 rfl rfl)
theorem dJ27_equals_5 : decode cJ27_equals 5 = .ok (.iconst 1, 1) := dk_4 (dk_at dksJ27_equals_0 5 rfl rfl)
theorem dJ27_equals_6 : decode cJ27_equals 6 = .ok (.goto 4, 3) := dk_167 0 4 (dk_at dksJ27_equals_0 6 rfl rfl)
theorem dJ27_equals_9 : decode cJ27_equals 9 = .ok (.iconst 0, 1) := dk_3 (dk_at dksJ27_equals_0 9 rfl rfl)
theorem dJ27_equals_10 : decode cJ27_equals 10 = .ok (.ireturn, 1) := dk_172 (dk_at dksJ27_equals_0 10 rfl rfl)
theorem q103 : (Jvm.Cond.instanceMethod ({ cls := "java/lang/Object", name := "<init>", desc := "()V" } : Jvm.MethodName)) ∈ lw_all := lw_g (lw_at lw_m1 59 rfl) rfl
theorem q104 : (Jvm.Cond.code ({ cls := "java/lang/Object", name := "<init>", desc := "()V" } : Jvm.MethodName) object_method_1_code (1 : Nat) (Option.none : Option Jvm.ClassFile.FieldType)) ∈ lw_all := lw_g (lw_at lw_m1 60 rfl) rfl
theorem q449 : (Jvm.Cond.declares ({ cls := "java/lang/Object", name := "hashCode", desc := "()I" } : Jvm.MethodName)) ∈ lw_tbl := lw_at lw_m2 165 rfl
theorem q451 : (Jvm.Cond.instanceMethod ({ cls := "java/lang/Object", name := "hashCode", desc := "()I" } : Jvm.MethodName)) ∈ lw_all := lw_g (lw_at lw_m2 167 rfl) rfl
theorem q452 : (Jvm.Cond.sameMethod "java/lang/Object" "java/lang/Object" "hashCode" "()I") ∈ lw_all := lw_g (lw_at lw_m2 168 rfl) rfl
theorem q489 : (Jvm.Cond.native ({ cls := "java/lang/Object", name := "hashCode", desc := "()I" } : Jvm.MethodName)) ∈ lw_all := lw_g (lw_at lw_m2 205 rfl) rfl
theorem q556 : (Jvm.Cond.instanceMethod ({ cls := "java/lang/Object", name := "getClass", desc := "()Ljava/lang/Class;" } : Jvm.MethodName)) ∈ lw_all := lw_g (lw_at lw_m3 32 rfl) rfl
theorem q557 : (Jvm.Cond.sameMethod "java/lang/Object" "java/lang/Object" "getClass" "()Ljava/lang/Class;") ∈ lw_all := lw_g (lw_at lw_m3 33 rfl) rfl
theorem q592 : (Jvm.Cond.native ({ cls := "java/lang/Object", name := "getClass", desc := "()Ljava/lang/Class;" } : Jvm.MethodName)) ∈ lw_all := lw_g (lw_at lw_m3 68 rfl) rfl
theorem q633 : (Jvm.Cond.declares ({ cls := "java/lang/Object", name := "equals", desc := "(Ljava/lang/Object;)Z" } : Jvm.MethodName)) ∈ lw_tbl := lw_at lw_m3 109 rfl
theorem q635 : (Jvm.Cond.instanceMethod ({ cls := "java/lang/Object", name := "equals", desc := "(Ljava/lang/Object;)Z" } : Jvm.MethodName)) ∈ lw_all := lw_g (lw_at lw_m3 111 rfl) rfl
theorem q636 : (Jvm.Cond.sameMethod "java/lang/Object" "java/lang/Object" "equals" "(Ljava/lang/Object;)Z") ∈ lw_all := lw_g (lw_at lw_m3 112 rfl) rfl
theorem q674 : (Jvm.Cond.code ({ cls := "java/lang/Object", name := "equals", desc := "(Ljava/lang/Object;)Z" } : Jvm.MethodName) object_method_4_code (2 : Nat) (Option.some Jvm.ClassFile.FieldType.boolean)) ∈ lw_all := lw_g (lw_at lw_m3 150 rfl) rfl
theorem q2629 : (Jvm.Cond.initialized "java/lang/Object") ∈ lw_all := lw_g (lw_at lw_m11 185 rfl) rfl
theorem q2676 : (Jvm.Cond.declares ({ cls := "java/lang/Object", name := "getClass", desc := "()Ljava/lang/Class;" } : Jvm.MethodName)) ∈ lw_tbl := lw_at lw_m11 232 rfl
