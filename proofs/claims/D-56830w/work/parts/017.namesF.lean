/-! QuorumAlmanacModel$Snapshot -/
set_option maxRecDepth 100000
def RX8 : String := "QuorumAlmanacModel$Snapshot"
def TX8 : u_T := fun k => match k with
  | 0 => ("QuorumAlmanacModel$Snapshot", "index", "I", true)
  | 1 => ("QuorumAlmanacModel$Snapshot", "term", "I", true)
  | 2 => ("QuorumAlmanacModel$Snapshot", "old", "I", true)
  | 3 => ("QuorumAlmanacModel$Snapshot", "fresh", "I", true)
  | _ => ("QuorumAlmanacModel$Snapshot", "store", "LQuorumAlmanacModel$Store;", true)
def tyX8 : Nat → FieldType := fun k => match k with
  | 0 => .int
  | 1 => .int
  | 2 => .int
  | 3 => .int
  | _ => .object "QuorumAlmanacModel$Store"
abbrev wsX80 : List Cond := u_ws RX8 TX8 5
theorem nmX8 : ∀ a, a < 5 → ∀ b, b < 5 → a ≠ b → (TX8 a).2.1 ≠ (TX8 b).2.1 := by decide +kernel
theorem tyX8_ok : ∀ k, k < 5 → parseFieldDescriptor (TX8 k).2.2.1 = some (tyX8 k) := by decide +kernel
abbrev cX8_init : ByteArray := prog_24_method_1_code
def yX8_init : MethodName := ⟨RX8, "<init>", "(IIIILQuorumAlmanacModel$Store;)V"⟩
def dkwX8_init_1 : List UInt8 := [181, 0, 19, 42, 25, 5, 181, 0, 22, 177]
abbrev dktX8_init_1 : List UInt8 := dkwX8_init_1 ++ []
def dkwX8_init_0 : List UInt8 := [42, 183, 0, 1, 42, 27, 181, 0, 7, 42, 28, 181, 0, 13, 42, 29, 181, 0, 16, 42, 21, 4]
abbrev dktX8_init_0 : List UInt8 := dkwX8_init_0 ++ dktX8_init_1
theorem dksX8_init_0 : cX8_init.data.toList.drop 0 = dktX8_init_0 := by decide +kernel
theorem dksX8_init_1 : cX8_init.data.toList.drop 22 = dktX8_init_1 := dk_seg dksX8_init_0 22 rfl rfl
theorem dX8_init_0 : decode cX8_init 0 = .ok (.aload_n 0, 1) := dk_42 (dk_at dksX8_init_0 0 rfl rfl)
theorem dX8_init_1 : decode cX8_init 1 = .ok (.invokespecial 1, 3) := dk_183 0 1 (dk_at dksX8_init_0 1 rfl rfl)
theorem dX8_init_4 : decode cX8_init 4 = .ok (.aload_n 0, 1) := dk_42 (dk_at dksX8_init_0 4 rfl rfl)
theorem dX8_init_5 : decode cX8_init 5 = .ok (.iload_n 1, 1) := dk_27 (dk_at dksX8_init_0 5 rfl rfl)
theorem dX8_init_6 : decode cX8_init 6 = .ok (.putfield 7, 3) := dk_181 0 7 (dk_at dksX8_init_0 6 rfl rfl)
theorem dX8_init_9 : decode cX8_init 9 = .ok (.aload_n 0, 1) := dk_42 (dk_at dksX8_init_0 9 rfl rfl)
theorem dX8_init_10 : decode cX8_init 10 = .ok (.iload_n 2, 1) := dk_28 (dk_at dksX8_init_0 10 rfl rfl)
theorem dX8_init_11 : decode cX8_init 11 = .ok (.putfield 13, 3) := dk_181 0 13 (dk_at dksX8_init_0 11 rfl rfl)
theorem dX8_init_14 : decode cX8_init 14 = .ok (.aload_n 0, 1) := dk_42 (dk_at dksX8_init_0 14 rfl rfl)
theorem dX8_init_15 : decode cX8_init 15 = .ok (.iload_n 3, 1) := dk_29 (dk_at dksX8_init_0 15 rfl rfl)
theorem dX8_init_16 : decode cX8_init 16 = .ok (.putfield 16, 3) := dk_181 0 16 (dk_at dksX8_init_0 16 rfl rfl)
theorem dX8_init_19 : decode cX8_init 19 = .ok (.aload_n 0, 1) := dk_42 (dk_at dksX8_init_0 19 rfl rfl)
theorem dX8_init_20 : decode cX8_init 20 = .ok (.iload 4, 2) := dk_21 4 (dk_at dksX8_init_0 20 rfl rfl)
theorem dX8_init_22 : decode cX8_init 22 = .ok (.putfield 19, 3) := dk_181 0 19 (dk_at dksX8_init_1 0 rfl rfl)
theorem dX8_init_25 : decode cX8_init 25 = .ok (.aload_n 0, 1) := dk_42 (dk_at dksX8_init_1 3 rfl rfl)
theorem dX8_init_26 : decode cX8_init 26 = .ok (.aload 5, 2) := dk_25 5 (dk_at dksX8_init_1 4 rfl rfl)
theorem dX8_init_28 : decode cX8_init 28 = .ok (.putfield 22, 3) := dk_181 0 22 (dk_at dksX8_init_1 6 rfl rfl)
theorem dX8_init_31 : decode cX8_init 31 = .ok (.return_, 1) := dk_177 (dk_at dksX8_init_1 9 rfl rfl)
theorem q56 : (Jvm.Cond.initialized "QuorumAlmanacModel$Snapshot") ∈ lw_all := lw_g (lw_at lw_m1 12 rfl) rfl
theorem q475 : (Jvm.Cond.selects "QuorumAlmanacModel$Snapshot" ({ cls := "java/lang/Object", name := "hashCode", desc := "()I" } : Jvm.MethodName) ({ cls := "java/lang/Object", name := "hashCode", desc := "()I" } : Jvm.MethodName)) ∈ lw_all := lw_g (lw_at lw_m2 191 rfl) rfl
theorem q577 : (Jvm.Cond.selects "QuorumAlmanacModel$Snapshot" ({ cls := "java/lang/Object", name := "getClass", desc := "()Ljava/lang/Class;" } : Jvm.MethodName) ({ cls := "java/lang/Object", name := "getClass", desc := "()Ljava/lang/Class;" } : Jvm.MethodName)) ∈ lw_all := lw_g (lw_at lw_m3 53 rfl) rfl
theorem q659 : (Jvm.Cond.selects "QuorumAlmanacModel$Snapshot" ({ cls := "java/lang/Object", name := "equals", desc := "(Ljava/lang/Object;)Z" } : Jvm.MethodName) ({ cls := "java/lang/Object", name := "equals", desc := "(Ljava/lang/Object;)Z" } : Jvm.MethodName)) ∈ lw_all := lw_g (lw_at lw_m3 135 rfl) rfl
theorem q1948 : (Jvm.Cond.instantiable "QuorumAlmanacModel$Snapshot" (5 : Nat)) ∈ lw_all := lw_g (lw_at lw_m8 224 rfl) rfl
theorem q1966 : (Jvm.Cond.instanceMethod ({ cls := "QuorumAlmanacModel$Snapshot", name := "<init>", desc := "(IIIILQuorumAlmanacModel$Store;)V" } : Jvm.MethodName)) ∈ lw_all := lw_g (lw_at lw_m9 2 rfl) rfl
theorem q1967 : (Jvm.Cond.code ({ cls := "QuorumAlmanacModel$Snapshot", name := "<init>", desc := "(IIIILQuorumAlmanacModel$Store;)V" } : Jvm.MethodName) prog_24_method_1_code (6 : Nat) (Option.none : Option Jvm.ClassFile.FieldType)) ∈ lw_all := lw_g (lw_at lw_m9 3 rfl) rfl
theorem q1968 : (Jvm.Cond.methodLink "QuorumAlmanacModel$Snapshot" (1 : Nat) ({ cls := "java/lang/Object", name := "<init>", desc := "()V" } : Jvm.MethodName)) ∈ lw_all := lw_g (lw_at lw_m9 4 rfl) rfl
theorem q1969 : (Jvm.Cond.fieldLink "QuorumAlmanacModel$Snapshot" (7 : Nat) "QuorumAlmanacModel$Snapshot" "index" "I") ∈ lw_all := lw_g (lw_at lw_m9 5 rfl) rfl
theorem q1972 : (Jvm.Cond.fieldLink "QuorumAlmanacModel$Snapshot" (13 : Nat) "QuorumAlmanacModel$Snapshot" "term" "I") ∈ lw_all := lw_g (lw_at lw_m9 8 rfl) rfl
theorem q1974 : (Jvm.Cond.fieldLink "QuorumAlmanacModel$Snapshot" (16 : Nat) "QuorumAlmanacModel$Snapshot" "old" "I") ∈ lw_all := lw_g (lw_at lw_m9 10 rfl) rfl
theorem q1976 : (Jvm.Cond.fieldLink "QuorumAlmanacModel$Snapshot" (19 : Nat) "QuorumAlmanacModel$Snapshot" "fresh" "I") ∈ lw_all := lw_g (lw_at lw_m9 12 rfl) rfl
theorem q1978 : (Jvm.Cond.fieldLink "QuorumAlmanacModel$Snapshot" (22 : Nat) "QuorumAlmanacModel$Snapshot" "store" "LQuorumAlmanacModel$Store;") ∈ lw_all := lw_g (lw_at lw_m9 14 rfl) rfl
theorem q1980 : (Jvm.Cond.laysFinal "QuorumAlmanacModel$Snapshot" "QuorumAlmanacModel$Snapshot" "index" "I") ∈ lw_all := lw_g (lw_at lw_m9 16 rfl) rfl
theorem q1981 : (Jvm.Cond.soleField "QuorumAlmanacModel$Snapshot" "index") ∈ lw_all := lw_g (lw_at lw_m9 17 rfl) rfl
theorem q1982 : (Jvm.Cond.laysFinal "QuorumAlmanacModel$Snapshot" "QuorumAlmanacModel$Snapshot" "term" "I") ∈ lw_all := lw_g (lw_at lw_m9 18 rfl) rfl
theorem q1983 : (Jvm.Cond.soleField "QuorumAlmanacModel$Snapshot" "term") ∈ lw_all := lw_g (lw_at lw_m9 19 rfl) rfl
theorem q1984 : (Jvm.Cond.laysFinal "QuorumAlmanacModel$Snapshot" "QuorumAlmanacModel$Snapshot" "old" "I") ∈ lw_all := lw_g (lw_at lw_m9 20 rfl) rfl
theorem q1985 : (Jvm.Cond.soleField "QuorumAlmanacModel$Snapshot" "old") ∈ lw_all := lw_g (lw_at lw_m9 21 rfl) rfl
theorem q1986 : (Jvm.Cond.laysFinal "QuorumAlmanacModel$Snapshot" "QuorumAlmanacModel$Snapshot" "fresh" "I") ∈ lw_all := lw_g (lw_at lw_m9 22 rfl) rfl
theorem q1987 : (Jvm.Cond.soleField "QuorumAlmanacModel$Snapshot" "fresh") ∈ lw_all := lw_g (lw_at lw_m9 23 rfl) rfl
theorem q1988 : (Jvm.Cond.laysFinal "QuorumAlmanacModel$Snapshot" "QuorumAlmanacModel$Snapshot" "store" "LQuorumAlmanacModel$Store;") ∈ lw_all := lw_g (lw_at lw_m9 24 rfl) rfl
theorem q1989 : (Jvm.Cond.soleField "QuorumAlmanacModel$Snapshot" "store") ∈ lw_all := lw_g (lw_at lw_m9 25 rfl) rfl
theorem q1990 : (Jvm.Cond.superclass "QuorumAlmanacModel$Snapshot" "java/lang/Object") ∈ lw_all := lw_g (lw_at lw_m9 26 rfl) rfl
theorem q2646 : (Jvm.Cond.castable "QuorumAlmanacModel$Snapshot" "java/lang/Object") ∈ lw_tbl := lw_at lw_m11 202 rfl
theorem in_X8 : ∀ w ∈ wsX80, w ∈ lw_all := lw_in wsX80 [1980, 1982, 1984, 1986, 1988] (by decide +kernel) (by decide +kernel)
/-! QuorumAlmanacModel$Store -/
set_option maxRecDepth 100000
def RX9 : String := "QuorumAlmanacModel$Store"
def TX9 : u_T := fun k => match k with
  | 0 => ("QuorumAlmanacModel$Store", "values", "[I", true)
  | _ => ("QuorumAlmanacModel$Store", "writes", "[I", true)
def tyX9 : Nat → FieldType := fun k => match k with
  | 0 => .array .int
  | _ => .array .int
abbrev wsX90 : List Cond := u_ws RX9 TX9 2
theorem nmX9 : ∀ a, a < 2 → ∀ b, b < 2 → a ≠ b → (TX9 a).2.1 ≠ (TX9 b).2.1 := by decide +kernel
theorem tyX9_ok : ∀ k, k < 2 → parseFieldDescriptor (TX9 k).2.2.1 = some (tyX9 k) := by decide +kernel
abbrev cX9_init : ByteArray := prog_25_method_1_code
def yX9_init : MethodName := ⟨RX9, "<init>", "()V"⟩
def dkwX9_init_1 : List UInt8 := [16, 20, 162, 0, 16, 42, 180, 0, 15, 27, 2, 79, 132, 1, 1, 167, 255, 240, 177]
abbrev dktX9_init_1 : List UInt8 := dkwX9_init_1 ++ []
def dkwX9_init_0 : List UInt8 := [42, 183, 0, 3, 42, 16, 20, 188, 10, 181, 0, 9, 42, 16, 20, 188, 10, 181, 0, 15, 4, 60, 27]
abbrev dktX9_init_0 : List UInt8 := dkwX9_init_0 ++ dktX9_init_1
theorem dksX9_init_0 : cX9_init.data.toList.drop 0 = dktX9_init_0 := by decide +kernel
theorem dksX9_init_1 : cX9_init.data.toList.drop 23 = dktX9_init_1 := dk_seg dksX9_init_0 23 rfl rfl
theorem dX9_init_0 : decode cX9_init 0 = .ok (.aload_n 0, 1) := dk_42 (dk_at dksX9_init_0 0 rfl rfl)
theorem dX9_init_1 : decode cX9_init 1 = .ok (.invokespecial 3, 3) := dk_183 0 3 (dk_at dksX9_init_0 1 rfl rfl)
theorem dX9_init_4 : decode cX9_init 4 = .ok (.aload_n 0, 1) := dk_42 (dk_at dksX9_init_0 4 rfl rfl)
theorem dX9_init_5 : decode cX9_init 5 = .ok (.bipush 20, 2) := dk_16 20 (dk_at dksX9_init_0 5 rfl rfl)
theorem dX9_init_7 : decode cX9_init 7 = .ok (.newarray .int, 2) := dk_188_10 (dk_at dksX9_init_0 7 rfl rfl)
theorem dX9_init_9 : decode cX9_init 9 = .ok (.putfield 9, 3) := dk_181 0 9 (dk_at dksX9_init_0 9 rfl rfl)
theorem dX9_init_12 : decode cX9_init 12 = .ok (.aload_n 0, 1) := dk_42 (dk_at dksX9_init_0 12 rfl rfl)
theorem dX9_init_13 : decode cX9_init 13 = .ok (.bipush 20, 2) := dk_16 20 (dk_at dksX9_init_0 13 rfl rfl)
theorem dX9_init_15 : decode cX9_init 15 = .ok (.newarray .int, 2) := dk_188_10 (dk_at dksX9_init_0 15 rfl rfl)
theorem dX9_init_17 : decode cX9_init 17 = .ok (.putfield 15, 3) := dk_181 0 15 (dk_at dksX9_init_0 17 rfl rfl)
theorem dX9_init_20 : decode cX9_init 20 = .ok (.iconst 1, 1) := dk_4 (dk_at dksX9_init_0 20 rfl rfl)
theorem dX9_init_21 : decode cX9_init 21 = .ok (.istore_n 1, 1) := dk_60 (dk_at dksX9_init_0 21 rfl rfl)
theorem dX9_init_22 : decode cX9_init 22 = .ok (.iload_n 1, 1) := dk_27 (dk_at dksX9_init_0 22 rfl rfl)
theorem dX9_init_23 : decode cX9_init 23 = .ok (.bipush 20, 2) := dk_16 20 (dk_at dksX9_init_1 0 rfl rfl)
theorem dX9_init_25 : decode cX9_init 25 = .ok (.if_icmp .ge 16, 3) := dk_162 0 16 (dk_at dksX9_init_1 2 rfl rfl)
theorem dX9_init_28 : decode cX9_init 28 = .ok (.aload_n 0, 1) := dk_42 (dk_at dksX9_init_1 5 rfl rfl)
theorem dX9_init_29 : decode cX9_init 29 = .ok (.getfield 15, 3) := dk_180 0 15 (dk_at dksX9_init_1 6 rfl rfl)
theorem dX9_init_32 : decode cX9_init 32 = .ok (.iload_n 1, 1) := dk_27 (dk_at dksX9_init_1 9 rfl rfl)
theorem dX9_init_33 : decode cX9_init 33 = .ok (.iconst (-1), 1) := dk_2 (dk_at dksX9_init_1 10 rfl rfl)
theorem dX9_init_34 : decode cX9_init 34 = .ok (.iastore, 1) := dk_79 (dk_at dksX9_init_1 11 rfl rfl)
theorem dX9_init_35 : decode cX9_init 35 = .ok (.iinc 1 1, 3) := dk_132 1 1 (dk_at dksX9_init_1 12 rfl rfl)
theorem dX9_init_38 : decode cX9_init 38 = .ok (.goto (-16), 3) := dk_167 255 240 (dk_at dksX9_init_1 15 rfl rfl)
theorem dX9_init_41 : decode cX9_init 41 = .ok (.return_, 1) := dk_177 (dk_at dksX9_init_1 18 rfl rfl)
abbrev cX9_apply : ByteArray := prog_25_method_4_code
def yX9_apply : MethodName := ⟨RX9, "apply", "(LQuorumAlmanacModel$Entry;)V"⟩
def dkwX9_apply_6 : List UInt8 := [2, 79, 42, 180, 0, 15, 42, 43, 180, 0, 25, 182, 0, 32, 92, 46, 28, 96, 79, 177]
abbrev dktX9_apply_6 : List UInt8 := dkwX9_apply_6 ++ []
def dkwX9_apply_5 : List UInt8 := [180, 0, 25, 158, 0, 40, 42, 180, 0, 15, 43, 180, 0, 25, 46, 61, 42, 180, 0, 15, 43, 180, 0, 25]
abbrev dktX9_apply_5 : List UInt8 := dkwX9_apply_5 ++ dktX9_apply_6
def dkwX9_apply_4 : List UInt8 := [180, 0, 19, 16, 109, 160, 0, 60, 42, 180, 0, 15, 43, 180, 0, 25, 46, 2, 159, 0, 47, 43]
abbrev dktX9_apply_4 : List UInt8 := dkwX9_apply_4 ++ dktX9_apply_5
def dkwX9_apply_3 : List UInt8 := [180, 0, 25, 182, 0, 32, 3, 79, 42, 180, 0, 15, 43, 180, 0, 25, 3, 79, 167, 0, 69, 43]
abbrev dktX9_apply_3 : List UInt8 := dkwX9_apply_3 ++ dktX9_apply_4
def dkwX9_apply_2 : List UInt8 := [16, 115, 160, 0, 43, 42, 180, 0, 15, 43, 180, 0, 25, 46, 2, 160, 0, 30, 42, 180, 0, 15, 42, 43]
abbrev dktX9_apply_2 : List UInt8 := dkwX9_apply_2 ++ dktX9_apply_3
def dkwX9_apply_1 : List UInt8 := [180, 0, 15, 42, 43, 180, 0, 25, 182, 0, 32, 92, 46, 4, 96, 79, 167, 0, 118, 43, 180, 0, 19]
abbrev dktX9_apply_1 : List UInt8 := dkwX9_apply_1 ++ dktX9_apply_2
def dkwX9_apply_0 : List UInt8 := [43, 180, 0, 19, 16, 119, 160, 0, 36, 42, 180, 0, 9, 43, 180, 0, 25, 43, 180, 0, 29, 79, 42]
abbrev dktX9_apply_0 : List UInt8 := dkwX9_apply_0 ++ dktX9_apply_1
theorem dksX9_apply_0 : cX9_apply.data.toList.drop 0 = dktX9_apply_0 := by decide +kernel
theorem dksX9_apply_1 : cX9_apply.data.toList.drop 23 = dktX9_apply_1 := dk_seg dksX9_apply_0 23 rfl rfl
theorem dksX9_apply_2 : cX9_apply.data.toList.drop 46 = dktX9_apply_2 := dk_seg dksX9_apply_1 23 rfl rfl
theorem dksX9_apply_3 : cX9_apply.data.toList.drop 70 = dktX9_apply_3 := dk_seg dksX9_apply_2 24 rfl rfl
theorem dksX9_apply_4 : cX9_apply.data.toList.drop 92 = dktX9_apply_4 := dk_seg dksX9_apply_3 22 rfl rfl
theorem dksX9_apply_5 : cX9_apply.data.toList.drop 114 = dktX9_apply_5 := dk_seg dksX9_apply_4 22 rfl rfl
theorem dksX9_apply_6 : cX9_apply.data.toList.drop 138 = dktX9_apply_6 := dk_seg dksX9_apply_5 24 rfl rfl
theorem dX9_apply_0 : decode cX9_apply 0 = .ok (.aload_n 1, 1) := dk_43 (dk_at dksX9_apply_0 0 rfl rfl)
theorem dX9_apply_1 : decode cX9_apply 1 = .ok (.getfield 19, 3) := dk_180 0 19 (dk_at dksX9_apply_0 1 rfl rfl)
theorem dX9_apply_4 : decode cX9_apply 4 = .ok (.bipush 119, 2) := dk_16 119 (dk_at dksX9_apply_0 4 rfl rfl)
theorem dX9_apply_6 : decode cX9_apply 6 = .ok (.if_icmp .ne 36, 3) := dk_160 0 36 (dk_at dksX9_apply_0 6 rfl rfl)
theorem dX9_apply_9 : decode cX9_apply 9 = .ok (.aload_n 0, 1) := dk_42 (dk_at dksX9_apply_0 9 rfl rfl)
theorem dX9_apply_10 : decode cX9_apply 10 = .ok (.getfield 9, 3) := dk_180 0 9 (dk_at dksX9_apply_0 10 rfl rfl)
theorem dX9_apply_13 : decode cX9_apply 13 = .ok (.aload_n 1, 1) := dk_43 (dk_at dksX9_apply_0 13 rfl rfl)
theorem dX9_apply_14 : decode cX9_apply 14 = .ok (.getfield 25, 3) := dk_180 0 25 (dk_at dksX9_apply_0 14 rfl rfl)
theorem dX9_apply_17 : decode cX9_apply 17 = .ok (.aload_n 1, 1) := dk_43 (dk_at dksX9_apply_0 17 rfl rfl)
theorem dX9_apply_18 : decode cX9_apply 18 = .ok (.getfield 29, 3) := dk_180 0 29 (dk_at dksX9_apply_0 18 rfl rfl)
theorem dX9_apply_21 : decode cX9_apply 21 = .ok (.iastore, 1) := dk_79 (dk_at dksX9_apply_0 21 rfl rfl)
theorem dX9_apply_22 : decode cX9_apply 22 = .ok (.aload_n 0, 1) := dk_42 (dk_at dksX9_apply_0 22 rfl rfl)
theorem dX9_apply_23 : decode cX9_apply 23 = .ok (.getfield 15, 3) := dk_180 0 15 (dk_at dksX9_apply_1 0 rfl rfl)
theorem dX9_apply_26 : decode cX9_apply 26 = .ok (.aload_n 0, 1) := dk_42 (dk_at dksX9_apply_1 3 rfl rfl)
theorem dX9_apply_27 : decode cX9_apply 27 = .ok (.aload_n 1, 1) := dk_43 (dk_at dksX9_apply_1 4 rfl rfl)
theorem dX9_apply_28 : decode cX9_apply 28 = .ok (.getfield 25, 3) := dk_180 0 25 (dk_at dksX9_apply_1 5 rfl rfl)
theorem dX9_apply_31 : decode cX9_apply 31 = .ok (.invokevirtual 32, 3) := dk_182 0 32 (dk_at dksX9_apply_1 8 rfl rfl)
theorem dX9_apply_34 : decode cX9_apply 34 = .ok (.dup2, 1) := dk_92 (dk_at dksX9_apply_1 11 rfl rfl)
theorem dX9_apply_35 : decode cX9_apply 35 = .ok (.iaload, 1) := dk_46 (dk_at dksX9_apply_1 12 rfl rfl)
theorem dX9_apply_36 : decode cX9_apply 36 = .ok (.iconst 1, 1) := dk_4 (dk_at dksX9_apply_1 13 rfl rfl)
theorem dX9_apply_37 : decode cX9_apply 37 = .ok (.iadd, 1) := dk_96 (dk_at dksX9_apply_1 14 rfl rfl)
theorem dX9_apply_38 : decode cX9_apply 38 = .ok (.iastore, 1) := dk_79 (dk_at dksX9_apply_1 15 rfl rfl)
theorem dX9_apply_39 : decode cX9_apply 39 = .ok (.goto 118, 3) := dk_167 0 118 (dk_at dksX9_apply_1 16 rfl rfl)
theorem dX9_apply_42 : decode cX9_apply 42 = .ok (.aload_n 1, 1) := dk_43 (dk_at dksX9_apply_1 19 rfl rfl)
theorem dX9_apply_43 : decode cX9_apply 43 = .ok (.getfield 19, 3) := dk_180 0 19 (dk_at dksX9_apply_1 20 rfl rfl)
theorem dX9_apply_46 : decode cX9_apply 46 = .ok (.bipush 115, 2) := dk_16 115 (dk_at dksX9_apply_2 0 rfl rfl)
theorem dX9_apply_48 : decode cX9_apply 48 = .ok (.if_icmp .ne 43, 3) := dk_160 0 43 (dk_at dksX9_apply_2 2 rfl rfl)
theorem dX9_apply_51 : decode cX9_apply 51 = .ok (.aload_n 0, 1) := dk_42 (dk_at dksX9_apply_2 5 rfl rfl)
theorem dX9_apply_52 : decode cX9_apply 52 = .ok (.getfield 15, 3) := dk_180 0 15 (dk_at dksX9_apply_2 6 rfl rfl)
theorem dX9_apply_55 : decode cX9_apply 55 = .ok (.aload_n 1, 1) := dk_43 (dk_at dksX9_apply_2 9 rfl rfl)
theorem dX9_apply_56 : decode cX9_apply 56 = .ok (.getfield 25, 3) := dk_180 0 25 (dk_at dksX9_apply_2 10 rfl rfl)
theorem dX9_apply_59 : decode cX9_apply 59 = .ok (.iaload, 1) := dk_46 (dk_at dksX9_apply_2 13 rfl rfl)
theorem dX9_apply_60 : decode cX9_apply 60 = .ok (.iconst (-1), 1) := dk_2 (dk_at dksX9_apply_2 14 rfl rfl)
theorem dX9_apply_61 : decode cX9_apply 61 = .ok (.if_icmp .ne 30, 3) := dk_160 0 30 (dk_at dksX9_apply_2 15 rfl rfl)
theorem dX9_apply_64 : decode cX9_apply 64 = .ok (.aload_n 0, 1) := dk_42 (dk_at dksX9_apply_2 18 rfl rfl)
theorem dX9_apply_65 : decode cX9_apply 65 = .ok (.getfield 15, 3) := dk_180 0 15 (dk_at dksX9_apply_2 19 rfl rfl)
theorem dX9_apply_68 : decode cX9_apply 68 = .ok (.aload_n 0, 1) := dk_42 (dk_at dksX9_apply_2 22 rfl rfl)
theorem dX9_apply_69 : decode cX9_apply 69 = .ok (.aload_n 1, 1) := dk_43 (dk_at dksX9_apply_2 23 rfl rfl)
theorem dX9_apply_70 : decode cX9_apply 70 = .ok (.getfield 25, 3) := dk_180 0 25 (dk_at dksX9_apply_3 0 rfl rfl)
theorem dX9_apply_73 : decode cX9_apply 73 = .ok (.invokevirtual 32, 3) := dk_182 0 32 (dk_at dksX9_apply_3 3 rfl rfl)
theorem dX9_apply_76 : decode cX9_apply 76 = .ok (.iconst 0, 1) := dk_3 (dk_at dksX9_apply_3 6 rfl rfl)
theorem dX9_apply_77 : decode cX9_apply 77 = .ok (.iastore, 1) := dk_79 (dk_at dksX9_apply_3 7 rfl rfl)
theorem dX9_apply_78 : decode cX9_apply 78 = .ok (.aload_n 0, 1) := dk_42 (dk_at dksX9_apply_3 8 rfl rfl)
theorem dX9_apply_79 : decode cX9_apply 79 = .ok (.getfield 15, 3) := dk_180 0 15 (dk_at dksX9_apply_3 9 rfl rfl)
theorem dX9_apply_82 : decode cX9_apply 82 = .ok (.aload_n 1, 1) := dk_43 (dk_at dksX9_apply_3 12 rfl rfl)
theorem dX9_apply_83 : decode cX9_apply 83 = .ok (.getfield 25, 3) := dk_180 0 25 (dk_at dksX9_apply_3 13 rfl rfl)
theorem dX9_apply_86 : decode cX9_apply 86 = .ok (.iconst 0, 1) := dk_3 (dk_at dksX9_apply_3 16 rfl rfl)
theorem dX9_apply_87 : decode cX9_apply 87 = .ok (.iastore, 1) := dk_79 (dk_at dksX9_apply_3 17 rfl rfl)
theorem dX9_apply_88 : decode cX9_apply 88 = .ok (.goto 69, 3) := dk_167 0 69 (dk_at dksX9_apply_3 18 rfl rfl)
theorem dX9_apply_91 : decode cX9_apply 91 = .ok (.aload_n 1, 1) := dk_43 (dk_at dksX9_apply_3 21 rfl rfl)
theorem dX9_apply_92 : decode cX9_apply 92 = .ok (.getfield 19, 3) := dk_180 0 19 (dk_at dksX9_apply_4 0 rfl rfl)
theorem dX9_apply_95 : decode cX9_apply 95 = .ok (.bipush 109, 2) := dk_16 109 (dk_at dksX9_apply_4 3 rfl rfl)
theorem dX9_apply_97 : decode cX9_apply 97 = .ok (.if_icmp .ne 60, 3) := dk_160 0 60 (dk_at dksX9_apply_4 5 rfl rfl)
theorem dX9_apply_100 : decode cX9_apply 100 = .ok (.aload_n 0, 1) := dk_42 (dk_at dksX9_apply_4 8 rfl rfl)
theorem dX9_apply_101 : decode cX9_apply 101 = .ok (.getfield 15, 3) := dk_180 0 15 (dk_at dksX9_apply_4 9 rfl rfl)
theorem dX9_apply_104 : decode cX9_apply 104 = .ok (.aload_n 1, 1) := dk_43 (dk_at dksX9_apply_4 12 rfl rfl)
theorem dX9_apply_105 : decode cX9_apply 105 = .ok (.getfield 25, 3) := dk_180 0 25 (dk_at dksX9_apply_4 13 rfl rfl)
theorem dX9_apply_108 : decode cX9_apply 108 = .ok (.iaload, 1) := dk_46 (dk_at dksX9_apply_4 16 rfl rfl)
theorem dX9_apply_109 : decode cX9_apply 109 = .ok (.iconst (-1), 1) := dk_2 (dk_at dksX9_apply_4 17 rfl rfl)
theorem dX9_apply_110 : decode cX9_apply 110 = .ok (.if_icmp .eq 47, 3) := dk_159 0 47 (dk_at dksX9_apply_4 18 rfl rfl)
theorem dX9_apply_113 : decode cX9_apply 113 = .ok (.aload_n 1, 1) := dk_43 (dk_at dksX9_apply_4 21 rfl rfl)
theorem dX9_apply_114 : decode cX9_apply 114 = .ok (.getfield 25, 3) := dk_180 0 25 (dk_at dksX9_apply_5 0 rfl rfl)
theorem dX9_apply_117 : decode cX9_apply 117 = .ok (.ifCond .le 40, 3) := dk_158 0 40 (dk_at dksX9_apply_5 3 rfl rfl)
theorem dX9_apply_120 : decode cX9_apply 120 = .ok (.aload_n 0, 1) := dk_42 (dk_at dksX9_apply_5 6 rfl rfl)
theorem dX9_apply_121 : decode cX9_apply 121 = .ok (.getfield 15, 3) := dk_180 0 15 (dk_at dksX9_apply_5 7 rfl rfl)
theorem dX9_apply_124 : decode cX9_apply 124 = .ok (.aload_n 1, 1) := dk_43 (dk_at dksX9_apply_5 10 rfl rfl)
theorem dX9_apply_125 : decode cX9_apply 125 = .ok (.getfield 25, 3) := dk_180 0 25 (dk_at dksX9_apply_5 11 rfl rfl)
theorem dX9_apply_128 : decode cX9_apply 128 = .ok (.iaload, 1) := dk_46 (dk_at dksX9_apply_5 14 rfl rfl)
theorem dX9_apply_129 : decode cX9_apply 129 = .ok (.istore_n 2, 1) := dk_61 (dk_at dksX9_apply_5 15 rfl rfl)
theorem dX9_apply_130 : decode cX9_apply 130 = .ok (.aload_n 0, 1) := dk_42 (dk_at dksX9_apply_5 16 rfl rfl)
theorem dX9_apply_131 : decode cX9_apply 131 = .ok (.getfield 15, 3) := dk_180 0 15 (dk_at dksX9_apply_5 17 rfl rfl)
theorem dX9_apply_134 : decode cX9_apply 134 = .ok (.aload_n 1, 1) := dk_43 (dk_at dksX9_apply_5 20 rfl rfl)
theorem dX9_apply_135 : decode cX9_apply 135 = .ok (.getfield 25, 3) := dk_180 0 25 (dk_at dksX9_apply_5 21 rfl rfl)
theorem dX9_apply_138 : decode cX9_apply 138 = .ok (.iconst (-1), 1) := dk_2 (dk_at dksX9_apply_6 0 rfl rfl)
theorem dX9_apply_139 : decode cX9_apply 139 = .ok (.iastore, 1) := dk_79 (dk_at dksX9_apply_6 1 rfl rfl)
theorem dX9_apply_140 : decode cX9_apply 140 = .ok (.aload_n 0, 1) := dk_42 (dk_at dksX9_apply_6 2 rfl rfl)
theorem dX9_apply_141 : decode cX9_apply 141 = .ok (.getfield 15, 3) := dk_180 0 15 (dk_at dksX9_apply_6 3 rfl rfl)
theorem dX9_apply_144 : decode cX9_apply 144 = .ok (.aload_n 0, 1) := dk_42 (dk_at dksX9_apply_6 6 rfl rfl)
theorem dX9_apply_145 : decode cX9_apply 145 = .ok (.aload_n 1, 1) := dk_43 (dk_at dksX9_apply_6 7 rfl rfl)
theorem dX9_apply_146 : decode cX9_apply 146 = .ok (.getfield 25, 3) := dk_180 0 25 (dk_at dksX9_apply_6 8 rfl rfl)
theorem dX9_apply_149 : decode cX9_apply 149 = .ok (.invokevirtual 32, 3) := dk_182 0 32 (dk_at dksX9_apply_6 11 rfl rfl)
theorem dX9_apply_152 : decode cX9_apply 152 = .ok (.dup2, 1) := dk_92 (dk_at dksX9_apply_6 14 rfl rfl)
theorem dX9_apply_153 : decode cX9_apply 153 = .ok (.iaload, 1) := dk_46 (dk_at dksX9_apply_6 15 rfl rfl)
theorem dX9_apply_154 : decode cX9_apply 154 = .ok (.iload_n 2, 1) := dk_28 (dk_at dksX9_apply_6 16 rfl rfl)
theorem dX9_apply_155 : decode cX9_apply 155 = .ok (.iadd, 1) := dk_96 (dk_at dksX9_apply_6 17 rfl rfl)
theorem dX9_apply_156 : decode cX9_apply 156 = .ok (.iastore, 1) := dk_79 (dk_at dksX9_apply_6 18 rfl rfl)
theorem dX9_apply_157 : decode cX9_apply 157 = .ok (.return_, 1) := dk_177 (dk_at dksX9_apply_6 19 rfl rfl)
abbrev cX9_first : ByteArray := prog_25_method_3_code
def yX9_first : MethodName := ⟨RX9, "first", "(I)I"⟩
def dkwX9_first_0 : List UInt8 := [27, 61, 42, 180, 0, 15, 28, 46, 2, 160, 0, 9, 132, 2, 255, 167, 255, 243, 28, 172]
abbrev dktX9_first_0 : List UInt8 := dkwX9_first_0 ++ []
theorem dksX9_first_0 : cX9_first.data.toList.drop 0 = dktX9_first_0 := by decide +kernel
theorem dX9_first_0 : decode cX9_first 0 = .ok (.iload_n 1, 1) := dk_27 (dk_at dksX9_first_0 0 rfl rfl)
theorem dX9_first_1 : decode cX9_first 1 = .ok (.istore_n 2, 1) := dk_61 (dk_at dksX9_first_0 1 rfl rfl)
theorem dX9_first_2 : decode cX9_first 2 = .ok (.aload_n 0, 1) := dk_42 (dk_at dksX9_first_0 2 rfl rfl)
theorem dX9_first_3 : decode cX9_first 3 = .ok (.getfield 15, 3) := dk_180 0 15 (dk_at dksX9_first_0 3 rfl rfl)
theorem dX9_first_6 : decode cX9_first 6 = .ok (.iload_n 2, 1) := dk_28 (dk_at dksX9_first_0 6 rfl rfl)
theorem dX9_first_7 : decode cX9_first 7 = .ok (.iaload, 1) := dk_46 (dk_at dksX9_first_0 7 rfl rfl)
theorem dX9_first_8 : decode cX9_first 8 = .ok (.iconst (-1), 1) := dk_2 (dk_at dksX9_first_0 8 rfl rfl)
theorem dX9_first_9 : decode cX9_first 9 = .ok (.if_icmp .ne 9, 3) := dk_160 0 9 (dk_at dksX9_first_0 9 rfl rfl)
theorem dX9_first_12 : decode cX9_first 12 = .ok (.iinc 2 (-1), 3) := dk_132 2 255 (dk_at dksX9_first_0 12 rfl rfl)
theorem dX9_first_15 : decode cX9_first 15 = .ok (.goto (-13), 3) := dk_167 255 243 (dk_at dksX9_first_0 15 rfl rfl)
theorem dX9_first_18 : decode cX9_first 18 = .ok (.iload_n 2, 1) := dk_28 (dk_at dksX9_first_0 18 rfl rfl)
theorem dX9_first_19 : decode cX9_first 19 = .ok (.ireturn, 1) := dk_172 (dk_at dksX9_first_0 19 rfl rfl)
abbrev cX9_copy : ByteArray := prog_25_method_2_code
def yX9_copy : MethodName := ⟨RX9, "copy", "()LQuorumAlmanacModel$Store;"⟩
def dkwX9_copy_2 : List UInt8 := [43, 176]
abbrev dktX9_copy_2 : List UInt8 := dkwX9_copy_2 ++ []
def dkwX9_copy_1 : List UInt8 := [180, 0, 9, 28, 46, 79, 43, 180, 0, 15, 28, 42, 180, 0, 15, 28, 46, 79, 132, 2, 1, 167, 255, 223]
abbrev dktX9_copy_1 : List UInt8 := dkwX9_copy_1 ++ dktX9_copy_2
def dkwX9_copy_0 : List UInt8 := [187, 0, 10, 89, 183, 0, 18, 76, 3, 61, 28, 16, 20, 162, 0, 33, 43, 180, 0, 9, 28, 42]
abbrev dktX9_copy_0 : List UInt8 := dkwX9_copy_0 ++ dktX9_copy_1
theorem dksX9_copy_0 : cX9_copy.data.toList.drop 0 = dktX9_copy_0 := by decide +kernel
theorem dksX9_copy_1 : cX9_copy.data.toList.drop 22 = dktX9_copy_1 := dk_seg dksX9_copy_0 22 rfl rfl
theorem dksX9_copy_2 : cX9_copy.data.toList.drop 46 = dktX9_copy_2 := dk_seg dksX9_copy_1 24 rfl rfl
theorem dX9_copy_0 : decode cX9_copy 0 = .ok (.new 10, 3) := dk_187 0 10 (dk_at dksX9_copy_0 0 rfl rfl)
theorem dX9_copy_3 : decode cX9_copy 3 = .ok (.dup, 1) := dk_89 (dk_at dksX9_copy_0 3 rfl rfl)
theorem dX9_copy_4 : decode cX9_copy 4 = .ok (.invokespecial 18, 3) := dk_183 0 18 (dk_at dksX9_copy_0 4 rfl rfl)
theorem dX9_copy_7 : decode cX9_copy 7 = .ok (.astore_n 1, 1) := dk_76 (dk_at dksX9_copy_0 7 rfl rfl)
theorem dX9_copy_8 : decode cX9_copy 8 = .ok (.iconst 0, 1) := dk_3 (dk_at dksX9_copy_0 8 rfl rfl)
theorem dX9_copy_9 : decode cX9_copy 9 = .ok (.istore_n 2, 1) := dk_61 (dk_at dksX9_copy_0 9 rfl rfl)
theorem dX9_copy_10 : decode cX9_copy 10 = .ok (.iload_n 2, 1) := dk_28 (dk_at dksX9_copy_0 10 rfl rfl)
theorem dX9_copy_11 : decode cX9_copy 11 = .ok (.bipush 20, 2) := dk_16 20 (dk_at dksX9_copy_0 11 rfl rfl)
theorem dX9_copy_13 : decode cX9_copy 13 = .ok (.if_icmp .ge 33, 3) := dk_162 0 33 (dk_at dksX9_copy_0 13 rfl rfl)
theorem dX9_copy_16 : decode cX9_copy 16 = .ok (.aload_n 1, 1) := dk_43 (dk_at dksX9_copy_0 16 rfl rfl)
theorem dX9_copy_17 : decode cX9_copy 17 = .ok (.getfield 9, 3) := dk_180 0 9 (dk_at dksX9_copy_0 17 rfl rfl)
theorem dX9_copy_20 : decode cX9_copy 20 = .ok (.iload_n 2, 1) := dk_28 (dk_at dksX9_copy_0 20 rfl rfl)
theorem dX9_copy_21 : decode cX9_copy 21 = .ok (.aload_n 0, 1) := dk_42 (dk_at dksX9_copy_0 21 rfl rfl)
theorem dX9_copy_22 : decode cX9_copy 22 = .ok (.getfield 9, 3) := dk_180 0 9 (dk_at dksX9_copy_1 0 rfl rfl)
theorem dX9_copy_25 : decode cX9_copy 25 = .ok (.iload_n 2, 1) := dk_28 (dk_at dksX9_copy_1 3 rfl rfl)
theorem dX9_copy_26 : decode cX9_copy 26 = .ok (.iaload, 1) := dk_46 (dk_at dksX9_copy_1 4 rfl rfl)
theorem dX9_copy_27 : decode cX9_copy 27 = .ok (.iastore, 1) := dk_79 (dk_at dksX9_copy_1 5 rfl rfl)
theorem dX9_copy_28 : decode cX9_copy 28 = .ok (.aload_n 1, 1) := dk_43 (dk_at dksX9_copy_1 6 rfl rfl)
theorem dX9_copy_29 : decode cX9_copy 29 = .ok (.getfield 15, 3) := dk_180 0 15 (dk_at dksX9_copy_1 7 rfl rfl)
theorem dX9_copy_32 : decode cX9_copy 32 = .ok (.iload_n 2, 1) := dk_28 (dk_at dksX9_copy_1 10 rfl rfl)
theorem dX9_copy_33 : decode cX9_copy 33 = .ok (.aload_n 0, 1) := dk_42 (dk_at dksX9_copy_1 11 rfl rfl)
theorem dX9_copy_34 : decode cX9_copy 34 = .ok (.getfield 15, 3) := dk_180 0 15 (dk_at dksX9_copy_1 12 rfl rfl)
theorem dX9_copy_37 : decode cX9_copy 37 = .ok (.iload_n 2, 1) := dk_28 (dk_at dksX9_copy_1 15 rfl rfl)
theorem dX9_copy_38 : decode cX9_copy 38 = .ok (.iaload, 1) := dk_46 (dk_at dksX9_copy_1 16 rfl rfl)
theorem dX9_copy_39 : decode cX9_copy 39 = .ok (.iastore, 1) := dk_79 (dk_at dksX9_copy_1 17 rfl rfl)
theorem dX9_copy_40 : decode cX9_copy 40 = .ok (.iinc 2 1, 3) := dk_132 2 1 (dk_at dksX9_copy_1 18 rfl rfl)
theorem dX9_copy_43 : decode cX9_copy 43 = .ok (.goto (-33), 3) := dk_167 255 223 (dk_at dksX9_copy_1 21 rfl rfl)
theorem dX9_copy_46 : decode cX9_copy 46 = .ok (.aload_n 1, 1) := dk_43 (dk_at dksX9_copy_2 0 rfl rfl)
theorem dX9_copy_47 : decode cX9_copy 47 = .ok (.areturn, 1) := dk_176 (dk_at dksX9_copy_2 1 rfl rfl)
theorem q57 : (Jvm.Cond.initialized "QuorumAlmanacModel$Store") ∈ lw_all := lw_g (lw_at lw_m1 13 rfl) rfl
theorem q476 : (Jvm.Cond.selects "QuorumAlmanacModel$Store" ({ cls := "java/lang/Object", name := "hashCode", desc := "()I" } : Jvm.MethodName) ({ cls := "java/lang/Object", name := "hashCode", desc := "()I" } : Jvm.MethodName)) ∈ lw_all := lw_g (lw_at lw_m2 192 rfl) rfl
theorem q578 : (Jvm.Cond.selects "QuorumAlmanacModel$Store" ({ cls := "java/lang/Object", name := "getClass", desc := "()Ljava/lang/Class;" } : Jvm.MethodName) ({ cls := "java/lang/Object", name := "getClass", desc := "()Ljava/lang/Class;" } : Jvm.MethodName)) ∈ lw_all := lw_g (lw_at lw_m3 54 rfl) rfl
theorem q660 : (Jvm.Cond.selects "QuorumAlmanacModel$Store" ({ cls := "java/lang/Object", name := "equals", desc := "(Ljava/lang/Object;)Z" } : Jvm.MethodName) ({ cls := "java/lang/Object", name := "equals", desc := "(Ljava/lang/Object;)Z" } : Jvm.MethodName)) ∈ lw_all := lw_g (lw_at lw_m3 136 rfl) rfl
theorem q1950 : (Jvm.Cond.instantiable "QuorumAlmanacModel$Store" (2 : Nat)) ∈ lw_all := lw_g (lw_at lw_m8 226 rfl) rfl
theorem q1952 : (Jvm.Cond.instanceMethod ({ cls := "QuorumAlmanacModel$Store", name := "<init>", desc := "()V" } : Jvm.MethodName)) ∈ lw_all := lw_g (lw_at lw_m8 228 rfl) rfl
theorem q1953 : (Jvm.Cond.code ({ cls := "QuorumAlmanacModel$Store", name := "<init>", desc := "()V" } : Jvm.MethodName) prog_25_method_1_code (2 : Nat) (Option.none : Option Jvm.ClassFile.FieldType)) ∈ lw_all := lw_g (lw_at lw_m8 229 rfl) rfl
theorem q1954 : (Jvm.Cond.methodLink "QuorumAlmanacModel$Store" (3 : Nat) ({ cls := "java/lang/Object", name := "<init>", desc := "()V" } : Jvm.MethodName)) ∈ lw_all := lw_g (lw_at lw_m8 230 rfl) rfl
theorem q1955 : (Jvm.Cond.fieldLink "QuorumAlmanacModel$Store" (9 : Nat) "QuorumAlmanacModel$Store" "values" "[I") ∈ lw_all := lw_g (lw_at lw_m8 231 rfl) rfl
theorem q1958 : (Jvm.Cond.fieldLink "QuorumAlmanacModel$Store" (15 : Nat) "QuorumAlmanacModel$Store" "writes" "[I") ∈ lw_all := lw_g (lw_at lw_m8 234 rfl) rfl
theorem q1960 : (Jvm.Cond.laysFinal "QuorumAlmanacModel$Store" "QuorumAlmanacModel$Store" "values" "[I") ∈ lw_all := lw_g (lw_at lw_m8 236 rfl) rfl
theorem q1961 : (Jvm.Cond.soleField "QuorumAlmanacModel$Store" "values") ∈ lw_all := lw_g (lw_at lw_m8 237 rfl) rfl
theorem q1962 : (Jvm.Cond.laysFinal "QuorumAlmanacModel$Store" "QuorumAlmanacModel$Store" "writes" "[I") ∈ lw_all := lw_g (lw_at lw_m8 238 rfl) rfl
theorem q1963 : (Jvm.Cond.soleField "QuorumAlmanacModel$Store" "writes") ∈ lw_all := lw_g (lw_at lw_m8 239 rfl) rfl
theorem q1964 : (Jvm.Cond.superclass "QuorumAlmanacModel$Store" "java/lang/Object") ∈ lw_all := lw_g (lw_at lw_m9 0 rfl) rfl
theorem q2262 : (Jvm.Cond.fieldLinkNest "QuorumAlmanacModel$Store" (19 : Nat) "QuorumAlmanacModel$Entry" "kind" "C" "QuorumAlmanacModel") ∈ lw_tbl := lw_at lw_m10 58 rfl
theorem q2266 : (Jvm.Cond.fieldLinkNest "QuorumAlmanacModel$Store" (25 : Nat) "QuorumAlmanacModel$Entry" "one" "I" "QuorumAlmanacModel") ∈ lw_tbl := lw_at lw_m10 62 rfl
theorem q2270 : (Jvm.Cond.fieldLinkNest "QuorumAlmanacModel$Store" (29 : Nat) "QuorumAlmanacModel$Entry" "other" "I" "QuorumAlmanacModel") ∈ lw_tbl := lw_at lw_m10 66 rfl
theorem q2303 : (Jvm.Cond.instanceMethod ({ cls := "QuorumAlmanacModel$Store", name := "apply", desc := "(LQuorumAlmanacModel$Entry;)V" } : Jvm.MethodName)) ∈ lw_all := lw_g (lw_at lw_m10 99 rfl) rfl
theorem q2304 : (Jvm.Cond.selects "QuorumAlmanacModel$Store" ({ cls := "QuorumAlmanacModel$Store", name := "apply", desc := "(LQuorumAlmanacModel$Entry;)V" } : Jvm.MethodName) ({ cls := "QuorumAlmanacModel$Store", name := "apply", desc := "(LQuorumAlmanacModel$Entry;)V" } : Jvm.MethodName)) ∈ lw_all := lw_g (lw_at lw_m10 100 rfl) rfl
theorem q2305 : (Jvm.Cond.code ({ cls := "QuorumAlmanacModel$Store", name := "apply", desc := "(LQuorumAlmanacModel$Entry;)V" } : Jvm.MethodName) prog_25_method_4_code (3 : Nat) (Option.none : Option Jvm.ClassFile.FieldType)) ∈ lw_all := lw_g (lw_at lw_m10 101 rfl) rfl
theorem q2306 : (Jvm.Cond.methodLink "QuorumAlmanacModel$Store" (32 : Nat) ({ cls := "QuorumAlmanacModel$Store", name := "first", desc := "(I)I" } : Jvm.MethodName)) ∈ lw_all := lw_g (lw_at lw_m10 102 rfl) rfl
theorem q2307 : (Jvm.Cond.instanceMethod ({ cls := "QuorumAlmanacModel$Store", name := "first", desc := "(I)I" } : Jvm.MethodName)) ∈ lw_all := lw_g (lw_at lw_m10 103 rfl) rfl
theorem q2308 : (Jvm.Cond.selects "QuorumAlmanacModel$Store" ({ cls := "QuorumAlmanacModel$Store", name := "first", desc := "(I)I" } : Jvm.MethodName) ({ cls := "QuorumAlmanacModel$Store", name := "first", desc := "(I)I" } : Jvm.MethodName)) ∈ lw_all := lw_g (lw_at lw_m10 104 rfl) rfl
theorem q2309 : (Jvm.Cond.code ({ cls := "QuorumAlmanacModel$Store", name := "first", desc := "(I)I" } : Jvm.MethodName) prog_25_method_3_code (3 : Nat) (Option.some Jvm.ClassFile.FieldType.int)) ∈ lw_all := lw_g (lw_at lw_m10 105 rfl) rfl
theorem q2352 : (Jvm.Cond.instanceMethod ({ cls := "QuorumAlmanacModel$Store", name := "copy", desc := "()LQuorumAlmanacModel$Store;" } : Jvm.MethodName)) ∈ lw_all := lw_g (lw_at lw_m10 148 rfl) rfl
theorem q2353 : (Jvm.Cond.selects "QuorumAlmanacModel$Store" ({ cls := "QuorumAlmanacModel$Store", name := "copy", desc := "()LQuorumAlmanacModel$Store;" } : Jvm.MethodName) ({ cls := "QuorumAlmanacModel$Store", name := "copy", desc := "()LQuorumAlmanacModel$Store;" } : Jvm.MethodName)) ∈ lw_all := lw_g (lw_at lw_m10 149 rfl) rfl
theorem q2354 : (Jvm.Cond.code ({ cls := "QuorumAlmanacModel$Store", name := "copy", desc := "()LQuorumAlmanacModel$Store;" } : Jvm.MethodName) prog_25_method_2_code (3 : Nat) (Option.some (Jvm.ClassFile.FieldType.object "QuorumAlmanacModel$Store"))) ∈ lw_all := lw_g (lw_at lw_m10 150 rfl) rfl
theorem q2355 : (Jvm.Cond.classLink "QuorumAlmanacModel$Store" (10 : Nat) "QuorumAlmanacModel$Store") ∈ lw_all := lw_g (lw_at lw_m10 151 rfl) rfl
theorem q2356 : (Jvm.Cond.methodLink "QuorumAlmanacModel$Store" (18 : Nat) ({ cls := "QuorumAlmanacModel$Store", name := "<init>", desc := "()V" } : Jvm.MethodName)) ∈ lw_all := lw_g (lw_at lw_m10 152 rfl) rfl
theorem q2647 : (Jvm.Cond.castable "QuorumAlmanacModel$Store" "java/lang/Object") ∈ lw_tbl := lw_at lw_m11 203 rfl
theorem in_X9 : ∀ w ∈ wsX90, w ∈ lw_all := lw_in wsX90 [1960, 1962] (by decide +kernel) (by decide +kernel)
/-! QuorumAlmanacModel$Message -/
set_option maxRecDepth 100000
def RX16 : String := "QuorumAlmanacModel$Message"
def TX16 : u_T := fun k => match k with
  | 0 => ("QuorumAlmanacModel$Message", "number", "I", true)
  | 1 => ("QuorumAlmanacModel$Message", "kind", "C", true)
  | 2 => ("QuorumAlmanacModel$Message", "from", "I", true)
  | 3 => ("QuorumAlmanacModel$Message", "to", "I", true)
  | 4 => ("QuorumAlmanacModel$Message", "term", "I", false)
  | 5 => ("QuorumAlmanacModel$Message", "round", "I", false)
  | 6 => ("QuorumAlmanacModel$Message", "index", "I", false)
  | 7 => ("QuorumAlmanacModel$Message", "indexTerm", "I", false)
  | 8 => ("QuorumAlmanacModel$Message", "isYes", "Z", false)
  | 9 => ("QuorumAlmanacModel$Message", "commit", "I", false)
  | 10 => ("QuorumAlmanacModel$Message", "entries", "Ljava/util/ArrayList;", false)
  | _ => ("QuorumAlmanacModel$Message", "snapshot", "LQuorumAlmanacModel$Snapshot;", false)
def tyX16 : Nat → FieldType := fun k => match k with
  | 0 => .int
  | 1 => .char
  | 2 => .int
  | 3 => .int
  | 4 => .int
  | 5 => .int
  | 6 => .int
  | 7 => .int
  | 8 => .boolean
  | 9 => .int
  | 10 => .object "java/util/ArrayList"
  | _ => .object "QuorumAlmanacModel$Snapshot"
abbrev wsX160 : List Cond := u_ws RX16 TX16 12
theorem nmX16 : ∀ a, a < 12 → ∀ b, b < 12 → a ≠ b → (TX16 a).2.1 ≠ (TX16 b).2.1 := by decide +kernel
theorem tyX16_ok : ∀ k, k < 12 → parseFieldDescriptor (TX16 k).2.2.1 = some (tyX16 k) := by decide +kernel
abbrev cX16_init : ByteArray := prog_21_method_1_code
def yX16_init : MethodName := ⟨RX16, "<init>", "(ICII)V"⟩
def dkwX16_init_1 : List UInt8 := [181, 0, 20, 177]
abbrev dktX16_init_1 : List UInt8 := dkwX16_init_1 ++ []
def dkwX16_init_0 : List UInt8 := [42, 183, 0, 1, 42, 27, 181, 0, 7, 42, 28, 181, 0, 13, 42, 29, 181, 0, 17, 42, 21, 4]
abbrev dktX16_init_0 : List UInt8 := dkwX16_init_0 ++ dktX16_init_1
theorem dksX16_init_0 : cX16_init.data.toList.drop 0 = dktX16_init_0 := by decide +kernel
theorem dksX16_init_1 : cX16_init.data.toList.drop 22 = dktX16_init_1 := dk_seg dksX16_init_0 22 rfl rfl
theorem dX16_init_0 : decode cX16_init 0 = .ok (.aload_n 0, 1) := dk_42 (dk_at dksX16_init_0 0 rfl rfl)
theorem dX16_init_1 : decode cX16_init 1 = .ok (.invokespecial 1, 3) := dk_183 0 1 (dk_at dksX16_init_0 1 rfl rfl)
theorem dX16_init_4 : decode cX16_init 4 = .ok (.aload_n 0, 1) := dk_42 (dk_at dksX16_init_0 4 rfl rfl)
theorem dX16_init_5 : decode cX16_init 5 = .ok (.iload_n 1, 1) := dk_27 (dk_at dksX16_init_0 5 rfl rfl)
theorem dX16_init_6 : decode cX16_init 6 = .ok (.putfield 7, 3) := dk_181 0 7 (dk_at dksX16_init_0 6 rfl rfl)
theorem dX16_init_9 : decode cX16_init 9 = .ok (.aload_n 0, 1) := dk_42 (dk_at dksX16_init_0 9 rfl rfl)
theorem dX16_init_10 : decode cX16_init 10 = .ok (.iload_n 2, 1) := dk_28 (dk_at dksX16_init_0 10 rfl rfl)
theorem dX16_init_11 : decode cX16_init 11 = .ok (.putfield 13, 3) := dk_181 0 13 (dk_at dksX16_init_0 11 rfl rfl)
theorem dX16_init_14 : decode cX16_init 14 = .ok (.aload_n 0, 1) := dk_42 (dk_at dksX16_init_0 14 rfl rfl)
theorem dX16_init_15 : decode cX16_init 15 = .ok (.iload_n 3, 1) := dk_29 (dk_at dksX16_init_0 15 rfl rfl)
theorem dX16_init_16 : decode cX16_init 16 = .ok (.putfield 17, 3) := dk_181 0 17 (dk_at dksX16_init_0 16 rfl rfl)
theorem dX16_init_19 : decode cX16_init 19 = .ok (.aload_n 0, 1) := dk_42 (dk_at dksX16_init_0 19 rfl rfl)
theorem dX16_init_20 : decode cX16_init 20 = .ok (.iload 4, 2) := dk_21 4 (dk_at dksX16_init_0 20 rfl rfl)
theorem dX16_init_22 : decode cX16_init 22 = .ok (.putfield 20, 3) := dk_181 0 20 (dk_at dksX16_init_1 0 rfl rfl)
theorem dX16_init_25 : decode cX16_init 25 = .ok (.return_, 1) := dk_177 (dk_at dksX16_init_1 3 rfl rfl)
abbrev cX16_copy : ByteArray := prog_21_method_2_code
def yX16_copy : MethodName := ⟨RX16, "copy", "(I)LQuorumAlmanacModel$Message;"⟩
def dkwX16_copy_3 : List UInt8 := [180, 0, 45, 181, 0, 45, 44, 42, 180, 0, 49, 181, 0, 49, 44, 176]
abbrev dktX16_copy_3 : List UInt8 := dkwX16_copy_3 ++ []
def dkwX16_copy_2 : List UInt8 := [180, 0, 35, 181, 0, 35, 44, 42, 180, 0, 38, 181, 0, 38, 44, 42, 180, 0, 42, 181, 0, 42, 44, 42]
abbrev dktX16_copy_2 : List UInt8 := dkwX16_copy_2 ++ dktX16_copy_3
def dkwX16_copy_1 : List UInt8 := [180, 0, 26, 181, 0, 26, 44, 42, 180, 0, 29, 181, 0, 29, 44, 42, 180, 0, 32, 181, 0, 32, 44, 42]
abbrev dktX16_copy_1 : List UInt8 := dkwX16_copy_1 ++ dktX16_copy_2
def dkwX16_copy_0 : List UInt8 := [187, 0, 8, 89, 27, 42, 180, 0, 13, 42, 180, 0, 17, 42, 180, 0, 20, 183, 0, 23, 77, 44, 42]
abbrev dktX16_copy_0 : List UInt8 := dkwX16_copy_0 ++ dktX16_copy_1
theorem dksX16_copy_0 : cX16_copy.data.toList.drop 0 = dktX16_copy_0 := by decide +kernel
theorem dksX16_copy_1 : cX16_copy.data.toList.drop 23 = dktX16_copy_1 := dk_seg dksX16_copy_0 23 rfl rfl
theorem dksX16_copy_2 : cX16_copy.data.toList.drop 47 = dktX16_copy_2 := dk_seg dksX16_copy_1 24 rfl rfl
theorem dksX16_copy_3 : cX16_copy.data.toList.drop 71 = dktX16_copy_3 := dk_seg dksX16_copy_2 24 rfl rfl
theorem dX16_copy_0 : decode cX16_copy 0 = .ok (.new 8, 3) := dk_187 0 8 (dk_at dksX16_copy_0 0 rfl rfl)
theorem dX16_copy_3 : decode cX16_copy 3 = .ok (.dup, 1) := dk_89 (dk_at dksX16_copy_0 3 rfl rfl)
theorem dX16_copy_4 : decode cX16_copy 4 = .ok (.iload_n 1, 1) := dk_27 (dk_at dksX16_copy_0 4 rfl rfl)
theorem dX16_copy_5 : decode cX16_copy 5 = .ok (.aload_n 0, 1) := dk_42 (dk_at dksX16_copy_0 5 rfl rfl)
theorem dX16_copy_6 : decode cX16_copy 6 = .ok (.getfield 13, 3) := dk_180 0 13 (dk_at dksX16_copy_0 6 rfl rfl)
theorem dX16_copy_9 : decode cX16_copy 9 = .ok (.aload_n 0, 1) := dk_42 (dk_at dksX16_copy_0 9 rfl rfl)
theorem dX16_copy_10 : decode cX16_copy 10 = .ok (.getfield 17, 3) := dk_180 0 17 (dk_at dksX16_copy_0 10 rfl rfl)
theorem dX16_copy_13 : decode cX16_copy 13 = .ok (.aload_n 0, 1) := dk_42 (dk_at dksX16_copy_0 13 rfl rfl)
theorem dX16_copy_14 : decode cX16_copy 14 = .ok (.getfield 20, 3) := dk_180 0 20 (dk_at dksX16_copy_0 14 rfl rfl)
theorem dX16_copy_17 : decode cX16_copy 17 = .ok (.invokespecial 23, 3) := dk_183 0 23 (dk_at dksX16_copy_0 17 rfl rfl)
theorem dX16_copy_20 : decode cX16_copy 20 = .ok (.astore_n 2, 1) := dk_77 (dk_at dksX16_copy_0 20 rfl rfl)
theorem dX16_copy_21 : decode cX16_copy 21 = .ok (.aload_n 2, 1) := dk_44 (dk_at dksX16_copy_0 21 rfl rfl)
theorem dX16_copy_22 : decode cX16_copy 22 = .ok (.aload_n 0, 1) := dk_42 (dk_at dksX16_copy_0 22 rfl rfl)
theorem dX16_copy_23 : decode cX16_copy 23 = .ok (.getfield 26, 3) := dk_180 0 26 (dk_at dksX16_copy_1 0 rfl rfl)
theorem dX16_copy_26 : decode cX16_copy 26 = .ok (.putfield 26, 3) := dk_181 0 26 (dk_at dksX16_copy_1 3 rfl rfl)
theorem dX16_copy_29 : decode cX16_copy 29 = .ok (.aload_n 2, 1) := dk_44 (dk_at dksX16_copy_1 6 rfl rfl)
theorem dX16_copy_30 : decode cX16_copy 30 = .ok (.aload_n 0, 1) := dk_42 (dk_at dksX16_copy_1 7 rfl rfl)
theorem dX16_copy_31 : decode cX16_copy 31 = .ok (.getfield 29, 3) := dk_180 0 29 (dk_at dksX16_copy_1 8 rfl rfl)
theorem dX16_copy_34 : decode cX16_copy 34 = .ok (.putfield 29, 3) := dk_181 0 29 (dk_at dksX16_copy_1 11 rfl rfl)
theorem dX16_copy_37 : decode cX16_copy 37 = .ok (.aload_n 2, 1) := dk_44 (dk_at dksX16_copy_1 14 rfl rfl)
theorem dX16_copy_38 : decode cX16_copy 38 = .ok (.aload_n 0, 1) := dk_42 (dk_at dksX16_copy_1 15 rfl rfl)
theorem dX16_copy_39 : decode cX16_copy 39 = .ok (.getfield 32, 3) := dk_180 0 32 (dk_at dksX16_copy_1 16 rfl rfl)
theorem dX16_copy_42 : decode cX16_copy 42 = .ok (.putfield 32, 3) := dk_181 0 32 (dk_at dksX16_copy_1 19 rfl rfl)
theorem dX16_copy_45 : decode cX16_copy 45 = .ok (.aload_n 2, 1) := dk_44 (dk_at dksX16_copy_1 22 rfl rfl)
theorem dX16_copy_46 : decode cX16_copy 46 = .ok (.aload_n 0, 1) := dk_42 (dk_at dksX16_copy_1 23 rfl rfl)
theorem dX16_copy_47 : decode cX16_copy 47 = .ok (.getfield 35, 3) := dk_180 0 35 (dk_at dksX16_copy_2 0 rfl rfl)
theorem dX16_copy_50 : decode cX16_copy 50 = .ok (.putfield 35, 3) := dk_181 0 35 (dk_at dksX16_copy_2 3 rfl rfl)
theorem dX16_copy_53 : decode cX16_copy 53 = .ok (.aload_n 2, 1) := dk_44 (dk_at dksX16_copy_2 6 rfl rfl)
theorem dX16_copy_54 : decode cX16_copy 54 = .ok (.aload_n 0, 1) := dk_42 (dk_at dksX16_copy_2 7 rfl rfl)
theorem dX16_copy_55 : decode cX16_copy 55 = .ok (.getfield 38, 3) := dk_180 0 38 (dk_at dksX16_copy_2 8 rfl rfl)
theorem dX16_copy_58 : decode cX16_copy 58 = .ok (.putfield 38, 3) := dk_181 0 38 (dk_at dksX16_copy_2 11 rfl rfl)
theorem dX16_copy_61 : decode cX16_copy 61 = .ok (.aload_n 2, 1) := dk_44 (dk_at dksX16_copy_2 14 rfl rfl)
theorem dX16_copy_62 : decode cX16_copy 62 = .ok (.aload_n 0, 1) := dk_42 (dk_at dksX16_copy_2 15 rfl rfl)
theorem dX16_copy_63 : decode cX16_copy 63 = .ok (.getfield 42, 3) := dk_180 0 42 (dk_at dksX16_copy_2 16 rfl rfl)
theorem dX16_copy_66 : decode cX16_copy 66 = .ok (.putfield 42, 3) := dk_181 0 42 (dk_at dksX16_copy_2 19 rfl rfl)
theorem dX16_copy_69 : decode cX16_copy 69 = .ok (.aload_n 2, 1) := dk_44 (dk_at dksX16_copy_2 22 rfl rfl)
theorem dX16_copy_70 : decode cX16_copy 70 = .ok (.aload_n 0, 1) := dk_42 (dk_at dksX16_copy_2 23 rfl rfl)
theorem dX16_copy_71 : decode cX16_copy 71 = .ok (.getfield 45, 3) := dk_180 0 45 (dk_at dksX16_copy_3 0 rfl rfl)
theorem dX16_copy_74 : decode cX16_copy 74 = .ok (.putfield 45, 3) := dk_181 0 45 (dk_at dksX16_copy_3 3 rfl rfl)
theorem dX16_copy_77 : decode cX16_copy 77 = .ok (.aload_n 2, 1) := dk_44 (dk_at dksX16_copy_3 6 rfl rfl)
theorem dX16_copy_78 : decode cX16_copy 78 = .ok (.aload_n 0, 1) := dk_42 (dk_at dksX16_copy_3 7 rfl rfl)
theorem dX16_copy_79 : decode cX16_copy 79 = .ok (.getfield 49, 3) := dk_180 0 49 (dk_at dksX16_copy_3 8 rfl rfl)
theorem dX16_copy_82 : decode cX16_copy 82 = .ok (.putfield 49, 3) := dk_181 0 49 (dk_at dksX16_copy_3 11 rfl rfl)
theorem dX16_copy_85 : decode cX16_copy 85 = .ok (.aload_n 2, 1) := dk_44 (dk_at dksX16_copy_3 14 rfl rfl)
theorem dX16_copy_86 : decode cX16_copy 86 = .ok (.areturn, 1) := dk_176 (dk_at dksX16_copy_3 15 rfl rfl)
theorem q81 : (Jvm.Cond.initialized "QuorumAlmanacModel$Message") ∈ lw_all := lw_g (lw_at lw_m1 37 rfl) rfl
theorem q472 : (Jvm.Cond.selects "QuorumAlmanacModel$Message" ({ cls := "java/lang/Object", name := "hashCode", desc := "()I" } : Jvm.MethodName) ({ cls := "java/lang/Object", name := "hashCode", desc := "()I" } : Jvm.MethodName)) ∈ lw_all := lw_g (lw_at lw_m2 188 rfl) rfl
theorem q574 : (Jvm.Cond.selects "QuorumAlmanacModel$Message" ({ cls := "java/lang/Object", name := "getClass", desc := "()Ljava/lang/Class;" } : Jvm.MethodName) ({ cls := "java/lang/Object", name := "getClass", desc := "()Ljava/lang/Class;" } : Jvm.MethodName)) ∈ lw_all := lw_g (lw_at lw_m3 50 rfl) rfl
theorem q656 : (Jvm.Cond.selects "QuorumAlmanacModel$Message" ({ cls := "java/lang/Object", name := "equals", desc := "(Ljava/lang/Object;)Z" } : Jvm.MethodName) ({ cls := "java/lang/Object", name := "equals", desc := "(Ljava/lang/Object;)Z" } : Jvm.MethodName)) ∈ lw_all := lw_g (lw_at lw_m3 132 rfl) rfl
theorem q2168 : (Jvm.Cond.instantiable "QuorumAlmanacModel$Message" (12 : Nat)) ∈ lw_all := lw_g (lw_at lw_m9 204 rfl) rfl
theorem q2170 : (Jvm.Cond.instanceMethod ({ cls := "QuorumAlmanacModel$Message", name := "<init>", desc := "(ICII)V" } : Jvm.MethodName)) ∈ lw_all := lw_g (lw_at lw_m9 206 rfl) rfl
theorem q2171 : (Jvm.Cond.code ({ cls := "QuorumAlmanacModel$Message", name := "<init>", desc := "(ICII)V" } : Jvm.MethodName) prog_21_method_1_code (5 : Nat) (Option.none : Option Jvm.ClassFile.FieldType)) ∈ lw_all := lw_g (lw_at lw_m9 207 rfl) rfl
theorem q2172 : (Jvm.Cond.methodLink "QuorumAlmanacModel$Message" (1 : Nat) ({ cls := "java/lang/Object", name := "<init>", desc := "()V" } : Jvm.MethodName)) ∈ lw_all := lw_g (lw_at lw_m9 208 rfl) rfl
theorem q2173 : (Jvm.Cond.fieldLink "QuorumAlmanacModel$Message" (7 : Nat) "QuorumAlmanacModel$Message" "number" "I") ∈ lw_all := lw_g (lw_at lw_m9 209 rfl) rfl
theorem q2175 : (Jvm.Cond.fieldLink "QuorumAlmanacModel$Message" (13 : Nat) "QuorumAlmanacModel$Message" "kind" "C") ∈ lw_all := lw_g (lw_at lw_m9 211 rfl) rfl
theorem q2178 : (Jvm.Cond.fieldLink "QuorumAlmanacModel$Message" (17 : Nat) "QuorumAlmanacModel$Message" "from" "I") ∈ lw_all := lw_g (lw_at lw_m9 214 rfl) rfl
theorem q2181 : (Jvm.Cond.fieldLink "QuorumAlmanacModel$Message" (20 : Nat) "QuorumAlmanacModel$Message" "to" "I") ∈ lw_all := lw_g (lw_at lw_m9 217 rfl) rfl
theorem q2183 : (Jvm.Cond.fieldLink "QuorumAlmanacModel$Message" (26 : Nat) "QuorumAlmanacModel$Message" "term" "I") ∈ lw_all := lw_g (lw_at lw_m9 219 rfl) rfl
theorem q2185 : (Jvm.Cond.fieldLink "QuorumAlmanacModel$Message" (29 : Nat) "QuorumAlmanacModel$Message" "round" "I") ∈ lw_all := lw_g (lw_at lw_m9 221 rfl) rfl
theorem q2187 : (Jvm.Cond.fieldLink "QuorumAlmanacModel$Message" (32 : Nat) "QuorumAlmanacModel$Message" "index" "I") ∈ lw_all := lw_g (lw_at lw_m9 223 rfl) rfl
theorem q2189 : (Jvm.Cond.fieldLink "QuorumAlmanacModel$Message" (35 : Nat) "QuorumAlmanacModel$Message" "indexTerm" "I") ∈ lw_all := lw_g (lw_at lw_m9 225 rfl) rfl
theorem q2191 : (Jvm.Cond.fieldLink "QuorumAlmanacModel$Message" (38 : Nat) "QuorumAlmanacModel$Message" "isYes" "Z") ∈ lw_all := lw_g (lw_at lw_m9 227 rfl) rfl
theorem q2193 : (Jvm.Cond.fieldLink "QuorumAlmanacModel$Message" (42 : Nat) "QuorumAlmanacModel$Message" "commit" "I") ∈ lw_all := lw_g (lw_at lw_m9 229 rfl) rfl
theorem q2195 : (Jvm.Cond.fieldLink "QuorumAlmanacModel$Message" (45 : Nat) "QuorumAlmanacModel$Message" "entries" "Ljava/util/ArrayList;") ∈ lw_all := lw_g (lw_at lw_m9 231 rfl) rfl
theorem q2197 : (Jvm.Cond.fieldLink "QuorumAlmanacModel$Message" (49 : Nat) "QuorumAlmanacModel$Message" "snapshot" "LQuorumAlmanacModel$Snapshot;") ∈ lw_all := lw_g (lw_at lw_m9 233 rfl) rfl
theorem q2199 : (Jvm.Cond.laysFinal "QuorumAlmanacModel$Message" "QuorumAlmanacModel$Message" "number" "I") ∈ lw_all := lw_g (lw_at lw_m9 235 rfl) rfl
theorem q2200 : (Jvm.Cond.soleField "QuorumAlmanacModel$Message" "number") ∈ lw_all := lw_g (lw_at lw_m9 236 rfl) rfl
theorem q2201 : (Jvm.Cond.laysFinal "QuorumAlmanacModel$Message" "QuorumAlmanacModel$Message" "kind" "C") ∈ lw_all := lw_g (lw_at lw_m9 237 rfl) rfl
theorem q2202 : (Jvm.Cond.soleField "QuorumAlmanacModel$Message" "kind") ∈ lw_all := lw_g (lw_at lw_m9 238 rfl) rfl
theorem q2203 : (Jvm.Cond.laysFinal "QuorumAlmanacModel$Message" "QuorumAlmanacModel$Message" "from" "I") ∈ lw_all := lw_g (lw_at lw_m9 239 rfl) rfl
theorem q2204 : (Jvm.Cond.soleField "QuorumAlmanacModel$Message" "from") ∈ lw_all := lw_g (lw_at lw_m10 0 rfl) rfl
theorem q2205 : (Jvm.Cond.laysFinal "QuorumAlmanacModel$Message" "QuorumAlmanacModel$Message" "to" "I") ∈ lw_all := lw_g (lw_at lw_m10 1 rfl) rfl
theorem q2206 : (Jvm.Cond.soleField "QuorumAlmanacModel$Message" "to") ∈ lw_all := lw_g (lw_at lw_m10 2 rfl) rfl
theorem q2207 : (Jvm.Cond.lays "QuorumAlmanacModel$Message" "QuorumAlmanacModel$Message" "term" "I") ∈ lw_all := lw_g (lw_at lw_m10 3 rfl) rfl
theorem q2208 : (Jvm.Cond.soleField "QuorumAlmanacModel$Message" "term") ∈ lw_all := lw_g (lw_at lw_m10 4 rfl) rfl
theorem q2209 : (Jvm.Cond.lays "QuorumAlmanacModel$Message" "QuorumAlmanacModel$Message" "round" "I") ∈ lw_all := lw_g (lw_at lw_m10 5 rfl) rfl
theorem q2210 : (Jvm.Cond.soleField "QuorumAlmanacModel$Message" "round") ∈ lw_all := lw_g (lw_at lw_m10 6 rfl) rfl
theorem q2211 : (Jvm.Cond.lays "QuorumAlmanacModel$Message" "QuorumAlmanacModel$Message" "index" "I") ∈ lw_all := lw_g (lw_at lw_m10 7 rfl) rfl
theorem q2212 : (Jvm.Cond.soleField "QuorumAlmanacModel$Message" "index") ∈ lw_all := lw_g (lw_at lw_m10 8 rfl) rfl
theorem q2213 : (Jvm.Cond.lays "QuorumAlmanacModel$Message" "QuorumAlmanacModel$Message" "indexTerm" "I") ∈ lw_all := lw_g (lw_at lw_m10 9 rfl) rfl
theorem q2214 : (Jvm.Cond.soleField "QuorumAlmanacModel$Message" "indexTerm") ∈ lw_all := lw_g (lw_at lw_m10 10 rfl) rfl
theorem q2215 : (Jvm.Cond.lays "QuorumAlmanacModel$Message" "QuorumAlmanacModel$Message" "isYes" "Z") ∈ lw_all := lw_g (lw_at lw_m10 11 rfl) rfl
theorem q2216 : (Jvm.Cond.soleField "QuorumAlmanacModel$Message" "isYes") ∈ lw_all := lw_g (lw_at lw_m10 12 rfl) rfl
theorem q2217 : (Jvm.Cond.lays "QuorumAlmanacModel$Message" "QuorumAlmanacModel$Message" "commit" "I") ∈ lw_all := lw_g (lw_at lw_m10 13 rfl) rfl
theorem q2218 : (Jvm.Cond.soleField "QuorumAlmanacModel$Message" "commit") ∈ lw_all := lw_g (lw_at lw_m10 14 rfl) rfl
theorem q2219 : (Jvm.Cond.lays "QuorumAlmanacModel$Message" "QuorumAlmanacModel$Message" "entries" "Ljava/util/ArrayList;") ∈ lw_all := lw_g (lw_at lw_m10 15 rfl) rfl
theorem q2220 : (Jvm.Cond.soleField "QuorumAlmanacModel$Message" "entries") ∈ lw_all := lw_g (lw_at lw_m10 16 rfl) rfl
theorem q2221 : (Jvm.Cond.lays "QuorumAlmanacModel$Message" "QuorumAlmanacModel$Message" "snapshot" "LQuorumAlmanacModel$Snapshot;") ∈ lw_all := lw_g (lw_at lw_m10 17 rfl) rfl
theorem q2222 : (Jvm.Cond.soleField "QuorumAlmanacModel$Message" "snapshot") ∈ lw_all := lw_g (lw_at lw_m10 18 rfl) rfl
theorem q2223 : (Jvm.Cond.superclass "QuorumAlmanacModel$Message" "java/lang/Object") ∈ lw_all := lw_g (lw_at lw_m10 19 rfl) rfl
theorem q2499 : (Jvm.Cond.instanceMethod ({ cls := "QuorumAlmanacModel$Message", name := "copy", desc := "(I)LQuorumAlmanacModel$Message;" } : Jvm.MethodName)) ∈ lw_all := lw_g (lw_at lw_m11 55 rfl) rfl
theorem q2500 : (Jvm.Cond.selects "QuorumAlmanacModel$Message" ({ cls := "QuorumAlmanacModel$Message", name := "copy", desc := "(I)LQuorumAlmanacModel$Message;" } : Jvm.MethodName) ({ cls := "QuorumAlmanacModel$Message", name := "copy", desc := "(I)LQuorumAlmanacModel$Message;" } : Jvm.MethodName)) ∈ lw_all := lw_g (lw_at lw_m11 56 rfl) rfl
theorem q2501 : (Jvm.Cond.code ({ cls := "QuorumAlmanacModel$Message", name := "copy", desc := "(I)LQuorumAlmanacModel$Message;" } : Jvm.MethodName) prog_21_method_2_code (3 : Nat) (Option.some (Jvm.ClassFile.FieldType.object "QuorumAlmanacModel$Message"))) ∈ lw_all := lw_g (lw_at lw_m11 57 rfl) rfl
theorem q2502 : (Jvm.Cond.classLink "QuorumAlmanacModel$Message" (8 : Nat) "QuorumAlmanacModel$Message") ∈ lw_all := lw_g (lw_at lw_m11 58 rfl) rfl
theorem q2503 : (Jvm.Cond.methodLink "QuorumAlmanacModel$Message" (23 : Nat) ({ cls := "QuorumAlmanacModel$Message", name := "<init>", desc := "(ICII)V" } : Jvm.MethodName)) ∈ lw_all := lw_g (lw_at lw_m11 59 rfl) rfl
theorem q2658 : (Jvm.Cond.castable "QuorumAlmanacModel$Message" "java/lang/Object") ∈ lw_tbl := lw_at lw_m11 214 rfl
theorem in_X16 : ∀ w ∈ wsX160, w ∈ lw_all := lw_in wsX160 [2199, 2201, 2203, 2205, 2207, 2209, 2211, 2213, 2215, 2217, 2219, 2221] (by decide +kernel) (by decide +kernel)
/-! QuorumAlmanacModel$Entry -/
set_option maxRecDepth 100000
def RX17 : String := "QuorumAlmanacModel$Entry"
def TX17 : u_T := fun k => match k with
  | 0 => ("QuorumAlmanacModel$Entry", "term", "I", true)
  | 1 => ("QuorumAlmanacModel$Entry", "kind", "C", true)
  | 2 => ("QuorumAlmanacModel$Entry", "one", "I", true)
  | _ => ("QuorumAlmanacModel$Entry", "other", "I", true)
def tyX17 : Nat → FieldType := fun k => match k with
  | 0 => .int
  | 1 => .char
  | 2 => .int
  | _ => .int
abbrev wsX170 : List Cond := u_ws RX17 TX17 4
theorem nmX17 : ∀ a, a < 4 → ∀ b, b < 4 → a ≠ b → (TX17 a).2.1 ≠ (TX17 b).2.1 := by decide +kernel
theorem tyX17_ok : ∀ k, k < 4 → parseFieldDescriptor (TX17 k).2.2.1 = some (tyX17 k) := by decide +kernel
abbrev cX17_init : ByteArray := prog_20_method_1_code
def yX17_init : MethodName := ⟨RX17, "<init>", "(ICII)V"⟩
def dkwX17_init_1 : List UInt8 := [181, 0, 20, 177]
abbrev dktX17_init_1 : List UInt8 := dkwX17_init_1 ++ []
def dkwX17_init_0 : List UInt8 := [42, 183, 0, 1, 42, 27, 181, 0, 7, 42, 28, 181, 0, 13, 42, 29, 181, 0, 17, 42, 21, 4]
abbrev dktX17_init_0 : List UInt8 := dkwX17_init_0 ++ dktX17_init_1
theorem dksX17_init_0 : cX17_init.data.toList.drop 0 = dktX17_init_0 := by decide +kernel
theorem dksX17_init_1 : cX17_init.data.toList.drop 22 = dktX17_init_1 := dk_seg dksX17_init_0 22 rfl rfl
theorem dX17_init_0 : decode cX17_init 0 = .ok (.aload_n 0, 1) := dk_42 (dk_at dksX17_init_0 0 rfl rfl)
theorem dX17_init_1 : decode cX17_init 1 = .ok (.invokespecial 1, 3) := dk_183 0 1 (dk_at dksX17_init_0 1 rfl rfl)
theorem dX17_init_4 : decode cX17_init 4 = .ok (.aload_n 0, 1) := dk_42 (dk_at dksX17_init_0 4 rfl rfl)
theorem dX17_init_5 : decode cX17_init 5 = .ok (.iload_n 1, 1) := dk_27 (dk_at dksX17_init_0 5 rfl rfl)
theorem dX17_init_6 : decode cX17_init 6 = .ok (.putfield 7, 3) := dk_181 0 7 (dk_at dksX17_init_0 6 rfl rfl)
theorem dX17_init_9 : decode cX17_init 9 = .ok (.aload_n 0, 1) := dk_42 (dk_at dksX17_init_0 9 rfl rfl)
theorem dX17_init_10 : decode cX17_init 10 = .ok (.iload_n 2, 1) := dk_28 (dk_at dksX17_init_0 10 rfl rfl)
theorem dX17_init_11 : decode cX17_init 11 = .ok (.putfield 13, 3) := dk_181 0 13 (dk_at dksX17_init_0 11 rfl rfl)
theorem dX17_init_14 : decode cX17_init 14 = .ok (.aload_n 0, 1) := dk_42 (dk_at dksX17_init_0 14 rfl rfl)
theorem dX17_init_15 : decode cX17_init 15 = .ok (.iload_n 3, 1) := dk_29 (dk_at dksX17_init_0 15 rfl rfl)
theorem dX17_init_16 : decode cX17_init 16 = .ok (.putfield 17, 3) := dk_181 0 17 (dk_at dksX17_init_0 16 rfl rfl)
theorem dX17_init_19 : decode cX17_init 19 = .ok (.aload_n 0, 1) := dk_42 (dk_at dksX17_init_0 19 rfl rfl)
theorem dX17_init_20 : decode cX17_init 20 = .ok (.iload 4, 2) := dk_21 4 (dk_at dksX17_init_0 20 rfl rfl)
theorem dX17_init_22 : decode cX17_init 22 = .ok (.putfield 20, 3) := dk_181 0 20 (dk_at dksX17_init_1 0 rfl rfl)
theorem dX17_init_25 : decode cX17_init 25 = .ok (.return_, 1) := dk_177 (dk_at dksX17_init_1 3 rfl rfl)
theorem q82 : (Jvm.Cond.initialized "QuorumAlmanacModel$Entry") ∈ lw_all := lw_g (lw_at lw_m1 38 rfl) rfl
theorem q471 : (Jvm.Cond.selects "QuorumAlmanacModel$Entry" ({ cls := "java/lang/Object", name := "hashCode", desc := "()I" } : Jvm.MethodName) ({ cls := "java/lang/Object", name := "hashCode", desc := "()I" } : Jvm.MethodName)) ∈ lw_all := lw_g (lw_at lw_m2 187 rfl) rfl
theorem q573 : (Jvm.Cond.selects "QuorumAlmanacModel$Entry" ({ cls := "java/lang/Object", name := "getClass", desc := "()Ljava/lang/Class;" } : Jvm.MethodName) ({ cls := "java/lang/Object", name := "getClass", desc := "()Ljava/lang/Class;" } : Jvm.MethodName)) ∈ lw_all := lw_g (lw_at lw_m3 49 rfl) rfl
theorem q655 : (Jvm.Cond.selects "QuorumAlmanacModel$Entry" ({ cls := "java/lang/Object", name := "equals", desc := "(Ljava/lang/Object;)Z" } : Jvm.MethodName) ({ cls := "java/lang/Object", name := "equals", desc := "(Ljava/lang/Object;)Z" } : Jvm.MethodName)) ∈ lw_all := lw_g (lw_at lw_m3 131 rfl) rfl
theorem q2253 : (Jvm.Cond.instantiable "QuorumAlmanacModel$Entry" (4 : Nat)) ∈ lw_all := lw_g (lw_at lw_m10 49 rfl) rfl
theorem q2255 : (Jvm.Cond.instanceMethod ({ cls := "QuorumAlmanacModel$Entry", name := "<init>", desc := "(ICII)V" } : Jvm.MethodName)) ∈ lw_all := lw_g (lw_at lw_m10 51 rfl) rfl
theorem q2256 : (Jvm.Cond.code ({ cls := "QuorumAlmanacModel$Entry", name := "<init>", desc := "(ICII)V" } : Jvm.MethodName) prog_20_method_1_code (5 : Nat) (Option.none : Option Jvm.ClassFile.FieldType)) ∈ lw_all := lw_g (lw_at lw_m10 52 rfl) rfl
theorem q2257 : (Jvm.Cond.methodLink "QuorumAlmanacModel$Entry" (1 : Nat) ({ cls := "java/lang/Object", name := "<init>", desc := "()V" } : Jvm.MethodName)) ∈ lw_all := lw_g (lw_at lw_m10 53 rfl) rfl
theorem q2258 : (Jvm.Cond.fieldLink "QuorumAlmanacModel$Entry" (7 : Nat) "QuorumAlmanacModel$Entry" "term" "I") ∈ lw_all := lw_g (lw_at lw_m10 54 rfl) rfl
theorem q2261 : (Jvm.Cond.fieldLink "QuorumAlmanacModel$Entry" (13 : Nat) "QuorumAlmanacModel$Entry" "kind" "C") ∈ lw_all := lw_g (lw_at lw_m10 57 rfl) rfl
theorem q2265 : (Jvm.Cond.fieldLink "QuorumAlmanacModel$Entry" (17 : Nat) "QuorumAlmanacModel$Entry" "one" "I") ∈ lw_all := lw_g (lw_at lw_m10 61 rfl) rfl
theorem q2269 : (Jvm.Cond.fieldLink "QuorumAlmanacModel$Entry" (20 : Nat) "QuorumAlmanacModel$Entry" "other" "I") ∈ lw_all := lw_g (lw_at lw_m10 65 rfl) rfl
theorem q2273 : (Jvm.Cond.laysFinal "QuorumAlmanacModel$Entry" "QuorumAlmanacModel$Entry" "term" "I") ∈ lw_all := lw_g (lw_at lw_m10 69 rfl) rfl
theorem q2274 : (Jvm.Cond.soleField "QuorumAlmanacModel$Entry" "term") ∈ lw_all := lw_g (lw_at lw_m10 70 rfl) rfl
theorem q2275 : (Jvm.Cond.laysFinal "QuorumAlmanacModel$Entry" "QuorumAlmanacModel$Entry" "kind" "C") ∈ lw_all := lw_g (lw_at lw_m10 71 rfl) rfl
theorem q2276 : (Jvm.Cond.soleField "QuorumAlmanacModel$Entry" "kind") ∈ lw_all := lw_g (lw_at lw_m10 72 rfl) rfl
theorem q2277 : (Jvm.Cond.laysFinal "QuorumAlmanacModel$Entry" "QuorumAlmanacModel$Entry" "one" "I") ∈ lw_all := lw_g (lw_at lw_m10 73 rfl) rfl
theorem q2278 : (Jvm.Cond.soleField "QuorumAlmanacModel$Entry" "one") ∈ lw_all := lw_g (lw_at lw_m10 74 rfl) rfl
theorem q2279 : (Jvm.Cond.laysFinal "QuorumAlmanacModel$Entry" "QuorumAlmanacModel$Entry" "other" "I") ∈ lw_all := lw_g (lw_at lw_m10 75 rfl) rfl
theorem q2280 : (Jvm.Cond.soleField "QuorumAlmanacModel$Entry" "other") ∈ lw_all := lw_g (lw_at lw_m10 76 rfl) rfl
theorem q2281 : (Jvm.Cond.superclass "QuorumAlmanacModel$Entry" "java/lang/Object") ∈ lw_all := lw_g (lw_at lw_m10 77 rfl) rfl
theorem q2659 : (Jvm.Cond.castable "QuorumAlmanacModel$Entry" "java/lang/Object") ∈ lw_tbl := lw_at lw_m11 215 rfl
theorem in_X17 : ∀ w ∈ wsX170, w ∈ lw_all := lw_in wsX170 [2273, 2275, 2277, 2279] (by decide +kernel) (by decide +kernel)
/-! QuorumAlmanacModel$Read -/
set_option maxRecDepth 100000
def RX22 : String := "QuorumAlmanacModel$Read"
def TX22 : u_T := fun k => match k with
  | 0 => ("QuorumAlmanacModel$Read", "node", "I", true)
  | 1 => ("QuorumAlmanacModel$Read", "term", "I", true)
  | 2 => ("QuorumAlmanacModel$Read", "key", "I", true)
  | 3 => ("QuorumAlmanacModel$Read", "round", "I", true)
  | 4 => ("QuorumAlmanacModel$Read", "state", "C", false)
  | _ => ("QuorumAlmanacModel$Read", "value", "I", false)
def tyX22 : Nat → FieldType := fun k => match k with
  | 0 => .int
  | 1 => .int
  | 2 => .int
  | 3 => .int
  | 4 => .char
  | _ => .int
abbrev wsX220 : List Cond := u_ws RX22 TX22 6
theorem nmX22 : ∀ a, a < 6 → ∀ b, b < 6 → a ≠ b → (TX22 a).2.1 ≠ (TX22 b).2.1 := by decide +kernel
theorem tyX22_ok : ∀ k, k < 6 → parseFieldDescriptor (TX22 k).2.2.1 = some (tyX22 k) := by decide +kernel
abbrev cX22_init : ByteArray := prog_23_method_1_code
def yX22_init : MethodName := ⟨RX22, "<init>", "(IIII)V"⟩
def dkwX22_init_1 : List UInt8 := [181, 0, 20, 42, 21, 4, 181, 0, 23, 177]
abbrev dktX22_init_1 : List UInt8 := dkwX22_init_1 ++ []
def dkwX22_init_0 : List UInt8 := [42, 183, 0, 1, 42, 16, 119, 181, 0, 7, 42, 27, 181, 0, 13, 42, 28, 181, 0, 17, 42, 29]
abbrev dktX22_init_0 : List UInt8 := dkwX22_init_0 ++ dktX22_init_1
theorem dksX22_init_0 : cX22_init.data.toList.drop 0 = dktX22_init_0 := by decide +kernel
theorem dksX22_init_1 : cX22_init.data.toList.drop 22 = dktX22_init_1 := dk_seg dksX22_init_0 22 rfl rfl
theorem dX22_init_0 : decode cX22_init 0 = .ok (.aload_n 0, 1) := dk_42 (dk_at dksX22_init_0 0 rfl rfl)
theorem dX22_init_1 : decode cX22_init 1 = .ok (.invokespecial 1, 3) := dk_183 0 1 (dk_at dksX22_init_0 1 rfl rfl)
theorem dX22_init_4 : decode cX22_init 4 = .ok (.aload_n 0, 1) := dk_42 (dk_at dksX22_init_0 4 rfl rfl)
theorem dX22_init_5 : decode cX22_init 5 = .ok (.bipush 119, 2) := dk_16 119 (dk_at dksX22_init_0 5 rfl rfl)
theorem dX22_init_7 : decode cX22_init 7 = .ok (.putfield 7, 3) := dk_181 0 7 (dk_at dksX22_init_0 7 rfl rfl)
theorem dX22_init_10 : decode cX22_init 10 = .ok (.aload_n 0, 1) := dk_42 (dk_at dksX22_init_0 10 rfl rfl)
theorem dX22_init_11 : decode cX22_init 11 = .ok (.iload_n 1, 1) := dk_27 (dk_at dksX22_init_0 11 rfl rfl)
theorem dX22_init_12 : decode cX22_init 12 = .ok (.putfield 13, 3) := dk_181 0 13 (dk_at dksX22_init_0 12 rfl rfl)
theorem dX22_init_15 : decode cX22_init 15 = .ok (.aload_n 0, 1) := dk_42 (dk_at dksX22_init_0 15 rfl rfl)
theorem dX22_init_16 : decode cX22_init 16 = .ok (.iload_n 2, 1) := dk_28 (dk_at dksX22_init_0 16 rfl rfl)
theorem dX22_init_17 : decode cX22_init 17 = .ok (.putfield 17, 3) := dk_181 0 17 (dk_at dksX22_init_0 17 rfl rfl)
theorem dX22_init_20 : decode cX22_init 20 = .ok (.aload_n 0, 1) := dk_42 (dk_at dksX22_init_0 20 rfl rfl)
theorem dX22_init_21 : decode cX22_init 21 = .ok (.iload_n 3, 1) := dk_29 (dk_at dksX22_init_0 21 rfl rfl)
theorem dX22_init_22 : decode cX22_init 22 = .ok (.putfield 20, 3) := dk_181 0 20 (dk_at dksX22_init_1 0 rfl rfl)
theorem dX22_init_25 : decode cX22_init 25 = .ok (.aload_n 0, 1) := dk_42 (dk_at dksX22_init_1 3 rfl rfl)
theorem dX22_init_26 : decode cX22_init 26 = .ok (.iload 4, 2) := dk_21 4 (dk_at dksX22_init_1 4 rfl rfl)
theorem dX22_init_28 : decode cX22_init 28 = .ok (.putfield 23, 3) := dk_181 0 23 (dk_at dksX22_init_1 6 rfl rfl)
theorem dX22_init_31 : decode cX22_init 31 = .ok (.return_, 1) := dk_177 (dk_at dksX22_init_1 9 rfl rfl)
theorem q89 : (Jvm.Cond.initialized "QuorumAlmanacModel$Read") ∈ lw_all := lw_g (lw_at lw_m1 45 rfl) rfl
theorem q474 : (Jvm.Cond.selects "QuorumAlmanacModel$Read" ({ cls := "java/lang/Object", name := "hashCode", desc := "()I" } : Jvm.MethodName) ({ cls := "java/lang/Object", name := "hashCode", desc := "()I" } : Jvm.MethodName)) ∈ lw_all := lw_g (lw_at lw_m2 190 rfl) rfl
theorem q576 : (Jvm.Cond.selects "QuorumAlmanacModel$Read" ({ cls := "java/lang/Object", name := "getClass", desc := "()Ljava/lang/Class;" } : Jvm.MethodName) ({ cls := "java/lang/Object", name := "getClass", desc := "()Ljava/lang/Class;" } : Jvm.MethodName)) ∈ lw_all := lw_g (lw_at lw_m3 52 rfl) rfl
theorem q658 : (Jvm.Cond.selects "QuorumAlmanacModel$Read" ({ cls := "java/lang/Object", name := "equals", desc := "(Ljava/lang/Object;)Z" } : Jvm.MethodName) ({ cls := "java/lang/Object", name := "equals", desc := "(Ljava/lang/Object;)Z" } : Jvm.MethodName)) ∈ lw_all := lw_g (lw_at lw_m3 134 rfl) rfl
theorem q2545 : (Jvm.Cond.instantiable "QuorumAlmanacModel$Read" (6 : Nat)) ∈ lw_all := lw_g (lw_at lw_m11 101 rfl) rfl
theorem q2547 : (Jvm.Cond.instanceMethod ({ cls := "QuorumAlmanacModel$Read", name := "<init>", desc := "(IIII)V" } : Jvm.MethodName)) ∈ lw_all := lw_g (lw_at lw_m11 103 rfl) rfl
theorem q2548 : (Jvm.Cond.code ({ cls := "QuorumAlmanacModel$Read", name := "<init>", desc := "(IIII)V" } : Jvm.MethodName) prog_23_method_1_code (5 : Nat) (Option.none : Option Jvm.ClassFile.FieldType)) ∈ lw_all := lw_g (lw_at lw_m11 104 rfl) rfl
theorem q2549 : (Jvm.Cond.methodLink "QuorumAlmanacModel$Read" (1 : Nat) ({ cls := "java/lang/Object", name := "<init>", desc := "()V" } : Jvm.MethodName)) ∈ lw_all := lw_g (lw_at lw_m11 105 rfl) rfl
theorem q2550 : (Jvm.Cond.fieldLink "QuorumAlmanacModel$Read" (13 : Nat) "QuorumAlmanacModel$Read" "node" "I") ∈ lw_all := lw_g (lw_at lw_m11 106 rfl) rfl
theorem q2552 : (Jvm.Cond.fieldLink "QuorumAlmanacModel$Read" (17 : Nat) "QuorumAlmanacModel$Read" "term" "I") ∈ lw_all := lw_g (lw_at lw_m11 108 rfl) rfl
theorem q2553 : (Jvm.Cond.fieldLink "QuorumAlmanacModel$Read" (20 : Nat) "QuorumAlmanacModel$Read" "key" "I") ∈ lw_all := lw_g (lw_at lw_m11 109 rfl) rfl
theorem q2555 : (Jvm.Cond.fieldLink "QuorumAlmanacModel$Read" (23 : Nat) "QuorumAlmanacModel$Read" "round" "I") ∈ lw_all := lw_g (lw_at lw_m11 111 rfl) rfl
theorem q2557 : (Jvm.Cond.fieldLink "QuorumAlmanacModel$Read" (7 : Nat) "QuorumAlmanacModel$Read" "state" "C") ∈ lw_all := lw_g (lw_at lw_m11 113 rfl) rfl
theorem q2562 : (Jvm.Cond.laysFinal "QuorumAlmanacModel$Read" "QuorumAlmanacModel$Read" "node" "I") ∈ lw_all := lw_g (lw_at lw_m11 118 rfl) rfl
theorem q2563 : (Jvm.Cond.soleField "QuorumAlmanacModel$Read" "node") ∈ lw_all := lw_g (lw_at lw_m11 119 rfl) rfl
theorem q2564 : (Jvm.Cond.laysFinal "QuorumAlmanacModel$Read" "QuorumAlmanacModel$Read" "term" "I") ∈ lw_all := lw_g (lw_at lw_m11 120 rfl) rfl
theorem q2565 : (Jvm.Cond.soleField "QuorumAlmanacModel$Read" "term") ∈ lw_all := lw_g (lw_at lw_m11 121 rfl) rfl
theorem q2566 : (Jvm.Cond.laysFinal "QuorumAlmanacModel$Read" "QuorumAlmanacModel$Read" "key" "I") ∈ lw_all := lw_g (lw_at lw_m11 122 rfl) rfl
theorem q2567 : (Jvm.Cond.soleField "QuorumAlmanacModel$Read" "key") ∈ lw_all := lw_g (lw_at lw_m11 123 rfl) rfl
theorem q2568 : (Jvm.Cond.laysFinal "QuorumAlmanacModel$Read" "QuorumAlmanacModel$Read" "round" "I") ∈ lw_all := lw_g (lw_at lw_m11 124 rfl) rfl
theorem q2569 : (Jvm.Cond.soleField "QuorumAlmanacModel$Read" "round") ∈ lw_all := lw_g (lw_at lw_m11 125 rfl) rfl
theorem q2570 : (Jvm.Cond.lays "QuorumAlmanacModel$Read" "QuorumAlmanacModel$Read" "state" "C") ∈ lw_all := lw_g (lw_at lw_m11 126 rfl) rfl
theorem q2571 : (Jvm.Cond.soleField "QuorumAlmanacModel$Read" "state") ∈ lw_all := lw_g (lw_at lw_m11 127 rfl) rfl
theorem q2572 : (Jvm.Cond.lays "QuorumAlmanacModel$Read" "QuorumAlmanacModel$Read" "value" "I") ∈ lw_all := lw_g (lw_at lw_m11 128 rfl) rfl
theorem q2573 : (Jvm.Cond.soleField "QuorumAlmanacModel$Read" "value") ∈ lw_all := lw_g (lw_at lw_m11 129 rfl) rfl
theorem q2574 : (Jvm.Cond.superclass "QuorumAlmanacModel$Read" "java/lang/Object") ∈ lw_all := lw_g (lw_at lw_m11 130 rfl) rfl
theorem q2666 : (Jvm.Cond.castable "QuorumAlmanacModel$Read" "java/lang/Object") ∈ lw_tbl := lw_at lw_m11 222 rfl
theorem in_X22 : ∀ w ∈ wsX220, w ∈ lw_all := lw_in wsX220 [2562, 2564, 2566, 2568, 2570, 2572] (by decide +kernel) (by decide +kernel)
theorem q363 : (Jvm.Cond.interfaceMethod "QuorumAlmanac$Measure" "QuorumAlmanac$Measure" "of" "(LQuorumAlmanac$Node;)I") ∈ lw_tbl := lw_at lw_m2 79 rfl
set_option maxRecDepth 100000
theorem q364 : (Jvm.Cond.declares ({ cls := "QuorumAlmanac$Measure", name := "of", desc := "(LQuorumAlmanac$Node;)I" } : Jvm.MethodName)) ∈ lw_tbl := lw_at lw_m2 80 rfl
theorem q2681 : (Jvm.Cond.castable "[B" "java/lang/Object") ∈ lw_tbl := lw_at lw_m11 237 rfl
set_option maxRecDepth 100000
theorem q2685 : (Jvm.Cond.castable "[D" "java/lang/Object") ∈ lw_tbl := lw_at lw_m12 1 rfl
set_option maxRecDepth 100000
theorem q2678 : (Jvm.Cond.castable "[I" "java/lang/Object") ∈ lw_tbl := lw_at lw_m11 234 rfl
set_option maxRecDepth 100000
theorem q2684 : (Jvm.Cond.castable "[J" "java/lang/Object") ∈ lw_tbl := lw_at lw_m12 0 rfl
set_option maxRecDepth 100000
theorem q2683 : (Jvm.Cond.castable "[LQuorumAlmanacModel$Node;" "java/lang/Object") ∈ lw_tbl := lw_at lw_m11 239 rfl
set_option maxRecDepth 100000
theorem q2677 : (Jvm.Cond.castable "[LQuorumAlmanac$Node;" "java/lang/Object") ∈ lw_tbl := lw_at lw_m11 233 rfl
set_option maxRecDepth 100000
theorem q2674 : (Jvm.Cond.sameMethod "[Ljava/lang/Object;" "java/lang/Object" "getClass" "()Ljava/lang/Class;") ∈ lw_all := lw_g (lw_at lw_m11 230 rfl) rfl
set_option maxRecDepth 100000
theorem q2675 : (Jvm.Cond.selects "[Ljava/lang/Object;" ({ cls := "java/lang/Object", name := "getClass", desc := "()Ljava/lang/Class;" } : Jvm.MethodName) ({ cls := "java/lang/Object", name := "getClass", desc := "()Ljava/lang/Class;" } : Jvm.MethodName)) ∈ lw_all := lw_g (lw_at lw_m11 231 rfl) rfl
theorem q2682 : (Jvm.Cond.castable "[Ljava/lang/Object;" "java/lang/Object") ∈ lw_tbl := lw_at lw_m11 238 rfl
theorem q2680 : (Jvm.Cond.castable "[Ljava/util/HashMap$Node;" "java/lang/Object") ∈ lw_tbl := lw_at lw_m11 236 rfl
set_option maxRecDepth 100000
theorem q2679 : (Jvm.Cond.castable "[Z" "java/lang/Object") ∈ lw_tbl := lw_at lw_m11 235 rfl
set_option maxRecDepth 100000
theorem q599 : (Jvm.Cond.interfaceMethod "java/lang/Comparable" "java/lang/Comparable" "compareTo" "(Ljava/lang/Object;)I") ∈ lw_tbl := lw_at lw_m3 75 rfl
set_option maxRecDepth 100000
theorem q600 : (Jvm.Cond.declares ({ cls := "java/lang/Comparable", name := "compareTo", desc := "(Ljava/lang/Object;)I" } : Jvm.MethodName)) ∈ lw_tbl := lw_at lw_m3 76 rfl
theorem q69 : (Jvm.Cond.initialized "java/lang/Integer$IntegerCache") ∈ lw_all := lw_g (lw_at lw_m1 25 rfl) rfl
set_option maxRecDepth 100000
theorem q752 : (Jvm.Cond.laysStatic "java/lang/Integer$IntegerCache" "high" "I") ∈ lw_tbl := lw_at lw_m3 228 rfl
theorem q754 : (Jvm.Cond.laysStatic "java/lang/Integer$IntegerCache" "cache" "[Ljava/lang/Integer;") ∈ lw_tbl := lw_at lw_m3 230 rfl
theorem q72 : (Jvm.Cond.initialized "java/lang/System") ∈ lw_all := lw_g (lw_at lw_m1 28 rfl) rfl
set_option maxRecDepth 100000
theorem q970 : (Jvm.Cond.static ({ cls := "java/lang/System", name := "arraycopy", desc := "(Ljava/lang/Object;ILjava/lang/Object;II)V" } : Jvm.MethodName)) ∈ lw_all := lw_g (lw_at lw_m4 206 rfl) rfl
theorem q971 : (Jvm.Cond.native ({ cls := "java/lang/System", name := "arraycopy", desc := "(Ljava/lang/Object;ILjava/lang/Object;II)V" } : Jvm.MethodName)) ∈ lw_all := lw_g (lw_at lw_m4 207 rfl) rfl
theorem q1173 : (Jvm.Cond.interfaceMethod "java/util/Iterator" "java/util/Iterator" "hasNext" "()Z") ∈ lw_tbl := lw_at lw_m5 169 rfl
set_option maxRecDepth 100000
theorem q1174 : (Jvm.Cond.declares ({ cls := "java/util/Iterator", name := "hasNext", desc := "()Z" } : Jvm.MethodName)) ∈ lw_tbl := lw_at lw_m5 170 rfl
theorem q1183 : (Jvm.Cond.interfaceMethod "java/util/Iterator" "java/util/Iterator" "next" "()Ljava/lang/Object;") ∈ lw_tbl := lw_at lw_m5 179 rfl
theorem q1184 : (Jvm.Cond.declares ({ cls := "java/util/Iterator", name := "next", desc := "()Ljava/lang/Object;" } : Jvm.MethodName)) ∈ lw_tbl := lw_at lw_m5 180 rfl
theorem q118 : (Jvm.Cond.arrayOver (Jvm.ClassFile.FieldType.object "QuorumAlmanac$Node")) ∈ lw_tbl := lw_at lw_m1 74 rfl
set_option maxRecDepth 100000
theorem q195 : (Jvm.Cond.arrayClass Jvm.ClassFile.FieldType.int) ∈ lw_all := lw_g (lw_at lw_m1 151 rfl) rfl
theorem q196 : (Jvm.Cond.arrayClass Jvm.ClassFile.FieldType.boolean) ∈ lw_all := lw_g (lw_at lw_m1 152 rfl) rfl
theorem q502 : (Jvm.Cond.arrayOver (Jvm.ClassFile.FieldType.object "java/util/HashMap$Node")) ∈ lw_tbl := lw_at lw_m2 218 rfl
theorem q860 : (Jvm.Cond.arrayClass Jvm.ClassFile.FieldType.byte) ∈ lw_all := lw_g (lw_at lw_m4 96 rfl) rfl
theorem q966 : (Jvm.Cond.arrayOver (Jvm.ClassFile.FieldType.object "java/lang/Object")) ∈ lw_tbl := lw_at lw_m4 202 rfl
theorem q1937 : (Jvm.Cond.arrayOver (Jvm.ClassFile.FieldType.object "QuorumAlmanacModel$Node")) ∈ lw_tbl := lw_at lw_m8 213 rfl
theorem q2626 : (Jvm.Cond.arrayClass Jvm.ClassFile.FieldType.long) ∈ lw_all := lw_g (lw_at lw_m11 182 rfl) rfl
theorem q2627 : (Jvm.Cond.arrayClass Jvm.ClassFile.FieldType.double) ∈ lw_all := lw_g (lw_at lw_m11 183 rfl) rfl
