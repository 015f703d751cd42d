/-! QuorumAlmanac -/
set_option maxRecDepth 100000
def RX1 : String := "QuorumAlmanac"
def TX1 : u_T := fun k => match k with
  | 0 => ("QuorumAlmanac", "lastOf", "LQuorumAlmanac$Measure;", true)
  | 1 => ("QuorumAlmanac", "termOf", "LQuorumAlmanac$Measure;", true)
  | 2 => ("QuorumAlmanac", "nodes", "[LQuorumAlmanac$Node;", true)
  | 3 => ("QuorumAlmanac", "messages", "Ljava/util/ArrayList;", true)
  | 4 => ("QuorumAlmanac", "reads", "Ljava/util/ArrayList;", true)
  | 5 => ("QuorumAlmanac", "history", "Ljava/util/ArrayList;", true)
  | 6 => ("QuorumAlmanac", "made", "I", false)
  | 7 => ("QuorumAlmanac", "delivered", "J", false)
  | 8 => ("QuorumAlmanac", "refused", "I", false)
  | 9 => ("QuorumAlmanac", "isAgreed", "Z", false)
  | _ => ("QuorumAlmanac", "isStrong", "Z", false)
def tyX1 : Nat → FieldType := fun k => match k with
  | 0 => .object "QuorumAlmanac$Measure"
  | 1 => .object "QuorumAlmanac$Measure"
  | 2 => .array (.object "QuorumAlmanac$Node")
  | 3 => .object "java/util/ArrayList"
  | 4 => .object "java/util/ArrayList"
  | 5 => .object "java/util/ArrayList"
  | 6 => .int
  | 7 => .long
  | 8 => .int
  | 9 => .boolean
  | _ => .boolean
abbrev wsX10 : List Cond := u_ws RX1 TX1 11
theorem nmX1 : ∀ a, a < 11 → ∀ b, b < 11 → a ≠ b → (TX1 a).2.1 ≠ (TX1 b).2.1 := by decide +kernel
theorem tyX1_ok : ∀ k, k < 11 → parseFieldDescriptor (TX1 k).2.2.1 = some (tyX1 k) := by decide +kernel
abbrev cX1_init : ByteArray := prog_1_method_7_code
def yX1_init : MethodName := ⟨RX1, "<init>", "(I)V"⟩
def dkwX1_init_5 : List UInt8 := [132, 3, 1, 167, 255, 224, 177]
abbrev dktX1_init_5 : List UInt8 := dkwX1_init_5 ++ []
def dkwX1_init_4 : List UInt8 := [180, 0, 35, 29, 187, 0, 33, 89, 42, 29, 187, 0, 68, 89, 3, 28, 183, 0, 70, 183, 0, 73, 83]
abbrev dktX1_init_4 : List UInt8 := dkwX1_init_4 ++ dktX1_init_5
def dkwX1_init_3 : List UInt8 := [181, 0, 56, 4, 16, 31, 27, 184, 0, 59, 184, 0, 65, 61, 3, 62, 29, 8, 162, 0, 33, 42]
abbrev dktX1_init_3 : List UInt8 := dkwX1_init_3 ++ dktX1_init_4
def dkwX1_init_2 : List UInt8 := [183, 0, 41, 181, 0, 46, 42, 187, 0, 39, 89, 183, 0, 41, 181, 0, 49, 42, 4, 181, 0, 52, 42, 4]
abbrev dktX1_init_2 : List UInt8 := dkwX1_init_2 ++ dktX1_init_3
def dkwX1_init_1 : List UInt8 := [189, 0, 33, 181, 0, 35, 42, 187, 0, 39, 89, 183, 0, 41, 181, 0, 42, 42, 187, 0, 39, 89]
abbrev dktX1_init_1 : List UInt8 := dkwX1_init_1 ++ dktX1_init_2
def dkwX1_init_0 : List UInt8 := [42, 183, 0, 16, 42, 186, 0, 19, 0, 0, 181, 0, 23, 42, 186, 0, 29, 0, 0, 181, 0, 30, 42, 8]
abbrev dktX1_init_0 : List UInt8 := dkwX1_init_0 ++ dktX1_init_1
theorem dksX1_init_0 : cX1_init.data.toList.drop 0 = dktX1_init_0 := by decide +kernel
theorem dksX1_init_1 : cX1_init.data.toList.drop 24 = dktX1_init_1 := dk_seg dksX1_init_0 24 rfl rfl
theorem dksX1_init_2 : cX1_init.data.toList.drop 46 = dktX1_init_2 := dk_seg dksX1_init_1 22 rfl rfl
theorem dksX1_init_3 : cX1_init.data.toList.drop 70 = dktX1_init_3 := dk_seg dksX1_init_2 24 rfl rfl
theorem dksX1_init_4 : cX1_init.data.toList.drop 92 = dktX1_init_4 := dk_seg dksX1_init_3 22 rfl rfl
theorem dksX1_init_5 : cX1_init.data.toList.drop 115 = dktX1_init_5 := dk_seg dksX1_init_4 23 rfl rfl
theorem dX1_init_0 : decode cX1_init 0 = .ok (.aload_n 0, 1) := dk_42 (dk_at dksX1_init_0 0 rfl rfl)
theorem dX1_init_1 : decode cX1_init 1 = .ok (.invokespecial 16, 3) := dk_183 0 16 (dk_at dksX1_init_0 1 rfl rfl)
theorem dX1_init_4 : decode cX1_init 4 = .ok (.aload_n 0, 1) := dk_42 (dk_at dksX1_init_0 4 rfl rfl)
theorem dX1_init_5 : decode cX1_init 5 = .ok (.invokedynamic 19, 5) := by decide +kernel
theorem dX1_init_10 : decode cX1_init 10 = .ok (.putfield 23, 3) := dk_181 0 23 (dk_at dksX1_init_0 10 rfl rfl)
theorem dX1_init_13 : decode cX1_init 13 = .ok (.aload_n 0, 1) := dk_42 (dk_at dksX1_init_0 13 rfl rfl)
theorem dX1_init_14 : decode cX1_init 14 = .ok (.invokedynamic 29, 5) := by decide +kernel
theorem dX1_init_19 : decode cX1_init 19 = .ok (.putfield 30, 3) := dk_181 0 30 (dk_at dksX1_init_0 19 rfl rfl)
theorem dX1_init_22 : decode cX1_init 22 = .ok (.aload_n 0, 1) := dk_42 (dk_at dksX1_init_0 22 rfl rfl)
theorem dX1_init_23 : decode cX1_init 23 = .ok (.iconst 5, 1) := dk_8 (dk_at dksX1_init_0 23 rfl rfl)
theorem dX1_init_24 : decode cX1_init 24 = .ok (.anewarray 33, 3) := dk_189 0 33 (dk_at dksX1_init_1 0 rfl rfl)
theorem dX1_init_27 : decode cX1_init 27 = .ok (.putfield 35, 3) := dk_181 0 35 (dk_at dksX1_init_1 3 rfl rfl)
theorem dX1_init_30 : decode cX1_init 30 = .ok (.aload_n 0, 1) := dk_42 (dk_at dksX1_init_1 6 rfl rfl)
theorem dX1_init_31 : decode cX1_init 31 = .ok (.new 39, 3) := dk_187 0 39 (dk_at dksX1_init_1 7 rfl rfl)
theorem dX1_init_34 : decode cX1_init 34 = .ok (.dup, 1) := dk_89 (dk_at dksX1_init_1 10 rfl rfl)
theorem dX1_init_35 : decode cX1_init 35 = .ok (.invokespecial 41, 3) := dk_183 0 41 (dk_at dksX1_init_1 11 rfl rfl)
theorem dX1_init_38 : decode cX1_init 38 = .ok (.putfield 42, 3) := dk_181 0 42 (dk_at dksX1_init_1 14 rfl rfl)
theorem dX1_init_41 : decode cX1_init 41 = .ok (.aload_n 0, 1) := dk_42 (dk_at dksX1_init_1 17 rfl rfl)
theorem dX1_init_42 : decode cX1_init 42 = .ok (.new 39, 3) := dk_187 0 39 (dk_at dksX1_init_1 18 rfl rfl)
theorem dX1_init_45 : decode cX1_init 45 = .ok (.dup, 1) := dk_89 (dk_at dksX1_init_1 21 rfl rfl)
theorem dX1_init_46 : decode cX1_init 46 = .ok (.invokespecial 41, 3) := dk_183 0 41 (dk_at dksX1_init_2 0 rfl rfl)
theorem dX1_init_49 : decode cX1_init 49 = .ok (.putfield 46, 3) := dk_181 0 46 (dk_at dksX1_init_2 3 rfl rfl)
theorem dX1_init_52 : decode cX1_init 52 = .ok (.aload_n 0, 1) := dk_42 (dk_at dksX1_init_2 6 rfl rfl)
theorem dX1_init_53 : decode cX1_init 53 = .ok (.new 39, 3) := dk_187 0 39 (dk_at dksX1_init_2 7 rfl rfl)
theorem dX1_init_56 : decode cX1_init 56 = .ok (.dup, 1) := dk_89 (dk_at dksX1_init_2 10 rfl rfl)
theorem dX1_init_57 : decode cX1_init 57 = .ok (.invokespecial 41, 3) := dk_183 0 41 (dk_at dksX1_init_2 11 rfl rfl)
theorem dX1_init_60 : decode cX1_init 60 = .ok (.putfield 49, 3) := dk_181 0 49 (dk_at dksX1_init_2 14 rfl rfl)
theorem dX1_init_63 : decode cX1_init 63 = .ok (.aload_n 0, 1) := dk_42 (dk_at dksX1_init_2 17 rfl rfl)
theorem dX1_init_64 : decode cX1_init 64 = .ok (.iconst 1, 1) := dk_4 (dk_at dksX1_init_2 18 rfl rfl)
theorem dX1_init_65 : decode cX1_init 65 = .ok (.putfield 52, 3) := dk_181 0 52 (dk_at dksX1_init_2 19 rfl rfl)
theorem dX1_init_68 : decode cX1_init 68 = .ok (.aload_n 0, 1) := dk_42 (dk_at dksX1_init_2 22 rfl rfl)
theorem dX1_init_69 : decode cX1_init 69 = .ok (.iconst 1, 1) := dk_4 (dk_at dksX1_init_2 23 rfl rfl)
theorem dX1_init_70 : decode cX1_init 70 = .ok (.putfield 56, 3) := dk_181 0 56 (dk_at dksX1_init_3 0 rfl rfl)
theorem dX1_init_73 : decode cX1_init 73 = .ok (.iconst 1, 1) := dk_4 (dk_at dksX1_init_3 3 rfl rfl)
theorem dX1_init_74 : decode cX1_init 74 = .ok (.bipush 31, 2) := dk_16 31 (dk_at dksX1_init_3 4 rfl rfl)
theorem dX1_init_76 : decode cX1_init 76 = .ok (.iload_n 1, 1) := dk_27 (dk_at dksX1_init_3 6 rfl rfl)
theorem dX1_init_77 : decode cX1_init 77 = .ok (.invokestatic 59, 3) := dk_184 0 59 (dk_at dksX1_init_3 7 rfl rfl)
theorem dX1_init_80 : decode cX1_init 80 = .ok (.invokestatic 65, 3) := dk_184 0 65 (dk_at dksX1_init_3 10 rfl rfl)
theorem dX1_init_83 : decode cX1_init 83 = .ok (.istore_n 2, 1) := dk_61 (dk_at dksX1_init_3 13 rfl rfl)
theorem dX1_init_84 : decode cX1_init 84 = .ok (.iconst 0, 1) := dk_3 (dk_at dksX1_init_3 14 rfl rfl)
theorem dX1_init_85 : decode cX1_init 85 = .ok (.istore_n 3, 1) := dk_62 (dk_at dksX1_init_3 15 rfl rfl)
theorem dX1_init_86 : decode cX1_init 86 = .ok (.iload_n 3, 1) := dk_29 (dk_at dksX1_init_3 16 rfl rfl)
theorem dX1_init_87 : decode cX1_init 87 = .ok (.iconst 5, 1) := dk_8 (dk_at dksX1_init_3 17 rfl rfl)
theorem dX1_init_88 : decode cX1_init 88 = .ok (.if_icmp .ge 33, 3) := dk_162 0 33 (dk_at dksX1_init_3 18 rfl rfl)
theorem dX1_init_91 : decode cX1_init 91 = .ok (.aload_n 0, 1) := dk_42 (dk_at dksX1_init_3 21 rfl rfl)
theorem dX1_init_92 : decode cX1_init 92 = .ok (.getfield 35, 3) := dk_180 0 35 (dk_at dksX1_init_4 0 rfl rfl)
theorem dX1_init_95 : decode cX1_init 95 = .ok (.iload_n 3, 1) := dk_29 (dk_at dksX1_init_4 3 rfl rfl)
theorem dX1_init_96 : decode cX1_init 96 = .ok (.new 33, 3) := dk_187 0 33 (dk_at dksX1_init_4 4 rfl rfl)
theorem dX1_init_99 : decode cX1_init 99 = .ok (.dup, 1) := dk_89 (dk_at dksX1_init_4 7 rfl rfl)
theorem dX1_init_100 : decode cX1_init 100 = .ok (.aload_n 0, 1) := dk_42 (dk_at dksX1_init_4 8 rfl rfl)
theorem dX1_init_101 : decode cX1_init 101 = .ok (.iload_n 3, 1) := dk_29 (dk_at dksX1_init_4 9 rfl rfl)
theorem dX1_init_102 : decode cX1_init 102 = .ok (.new 68, 3) := dk_187 0 68 (dk_at dksX1_init_4 10 rfl rfl)
theorem dX1_init_105 : decode cX1_init 105 = .ok (.dup, 1) := dk_89 (dk_at dksX1_init_4 13 rfl rfl)
theorem dX1_init_106 : decode cX1_init 106 = .ok (.iconst 0, 1) := dk_3 (dk_at dksX1_init_4 14 rfl rfl)
theorem dX1_init_107 : decode cX1_init 107 = .ok (.iload_n 2, 1) := dk_28 (dk_at dksX1_init_4 15 rfl rfl)
theorem dX1_init_108 : decode cX1_init 108 = .ok (.invokespecial 70, 3) := dk_183 0 70 (dk_at dksX1_init_4 16 rfl rfl)
theorem dX1_init_111 : decode cX1_init 111 = .ok (.invokespecial 73, 3) := dk_183 0 73 (dk_at dksX1_init_4 19 rfl rfl)
theorem dX1_init_114 : decode cX1_init 114 = .ok (.aastore, 1) := dk_83 (dk_at dksX1_init_4 22 rfl rfl)
theorem dX1_init_115 : decode cX1_init 115 = .ok (.iinc 3 1, 3) := dk_132 3 1 (dk_at dksX1_init_5 0 rfl rfl)
theorem dX1_init_118 : decode cX1_init 118 = .ok (.goto (-32), 3) := dk_167 255 224 (dk_at dksX1_init_5 3 rfl rfl)
theorem dX1_init_121 : decode cX1_init 121 = .ok (.return_, 1) := dk_177 (dk_at dksX1_init_5 6 rfl rfl)
abbrev cX1_lambda_new_0 : ByteArray := prog_1_method_64_code
def yX1_lambda_new_0 : MethodName := ⟨RX1, "lambda$new$0", "(LQuorumAlmanac$Node;)I"⟩
theorem dX1_lambda_new_0_0 : decode cX1_lambda_new_0 0 = .ok (.aload_n 0, 1) := by decide +kernel
theorem dX1_lambda_new_0_1 : decode cX1_lambda_new_0 1 = .ok (.invokevirtual 257, 3) := by decide +kernel
theorem dX1_lambda_new_0_4 : decode cX1_lambda_new_0 4 = .ok (.ireturn, 1) := by decide +kernel
abbrev cX1_lambda_new_1 : ByteArray := prog_1_method_63_code
def yX1_lambda_new_1 : MethodName := ⟨RX1, "lambda$new$1", "(LQuorumAlmanac$Node;)I"⟩
theorem dX1_lambda_new_1_0 : decode cX1_lambda_new_1 0 = .ok (.aload_n 0, 1) := by decide +kernel
theorem dX1_lambda_new_1_1 : decode cX1_lambda_new_1 1 = .ok (.getfield 253, 3) := by decide +kernel
theorem dX1_lambda_new_1_4 : decode cX1_lambda_new_1 4 = .ok (.ireturn, 1) := by decide +kernel
abbrev cX1_waiting : ByteArray := prog_1_method_31_code
def yX1_waiting : MethodName := ⟨RX1, "waiting", "()I"⟩
def dkwX1_waiting_0 : List UInt8 := [42, 180, 0, 42, 182, 0, 76, 172]
abbrev dktX1_waiting_0 : List UInt8 := dkwX1_waiting_0 ++ []
theorem dksX1_waiting_0 : cX1_waiting.data.toList.drop 0 = dktX1_waiting_0 := by decide +kernel
theorem dX1_waiting_0 : decode cX1_waiting 0 = .ok (.aload_n 0, 1) := dk_42 (dk_at dksX1_waiting_0 0 rfl rfl)
theorem dX1_waiting_1 : decode cX1_waiting 1 = .ok (.getfield 42, 3) := dk_180 0 42 (dk_at dksX1_waiting_0 1 rfl rfl)
theorem dX1_waiting_4 : decode cX1_waiting 4 = .ok (.invokevirtual 76, 3) := dk_182 0 76 (dk_at dksX1_waiting_0 4 rfl rfl)
theorem dX1_waiting_7 : decode cX1_waiting 7 = .ok (.ireturn, 1) := dk_172 (dk_at dksX1_waiting_0 7 rfl rfl)
abbrev cX1_history : ByteArray := prog_1_method_54_code
def yX1_history : MethodName := ⟨RX1, "history", "()I"⟩
def dkwX1_history_0 : List UInt8 := [42, 180, 0, 49, 182, 0, 76, 172]
abbrev dktX1_history_0 : List UInt8 := dkwX1_history_0 ++ []
theorem dksX1_history_0 : cX1_history.data.toList.drop 0 = dktX1_history_0 := by decide +kernel
theorem dX1_history_0 : decode cX1_history 0 = .ok (.aload_n 0, 1) := dk_42 (dk_at dksX1_history_0 0 rfl rfl)
theorem dX1_history_1 : decode cX1_history 1 = .ok (.getfield 49, 3) := dk_180 0 49 (dk_at dksX1_history_0 1 rfl rfl)
theorem dX1_history_4 : decode cX1_history 4 = .ok (.invokevirtual 76, 3) := dk_182 0 76 (dk_at dksX1_history_0 4 rfl rfl)
theorem dX1_history_7 : decode cX1_history 7 = .ok (.ireturn, 1) := dk_172 (dk_at dksX1_history_0 7 rfl rfl)
abbrev cX1_delivered : ByteArray := prog_1_method_56_code
def yX1_delivered : MethodName := ⟨RX1, "delivered", "()J"⟩
theorem dX1_delivered_0 : decode cX1_delivered 0 = .ok (.aload_n 0, 1) := by decide +kernel
theorem dX1_delivered_1 : decode cX1_delivered 1 = .ok (.getfield 232, 3) := by decide +kernel
theorem dX1_delivered_4 : decode cX1_delivered 4 = .ok (.lreturn, 1) := by decide +kernel
abbrev cX1_meanLast : ByteArray := prog_1_method_58_code
def yX1_meanLast : MethodName := ⟨RX1, "meanLast", "()D"⟩
def dkwX1_meanLast_2 : List UInt8 := [20, 1, 86, 111, 175]
abbrev dktX1_meanLast_2 : List UInt8 := dkwX1_meanLast_2 ++ []
def dkwX1_meanLast_1 : List UInt8 := [58, 5, 27, 42, 180, 0, 23, 25, 5, 185, 0, 156, 2, 0, 96, 60, 132, 4, 1, 167, 255, 227, 27, 135]
abbrev dktX1_meanLast_1 : List UInt8 := dkwX1_meanLast_1 ++ dktX1_meanLast_2
def dkwX1_meanLast_0 : List UInt8 := [3, 60, 42, 180, 0, 35, 77, 44, 190, 62, 3, 54, 4, 21, 4, 29, 162, 0, 29, 44, 21, 4, 50]
abbrev dktX1_meanLast_0 : List UInt8 := dkwX1_meanLast_0 ++ dktX1_meanLast_1
theorem dksX1_meanLast_0 : cX1_meanLast.data.toList.drop 0 = dktX1_meanLast_0 := by decide +kernel
theorem dksX1_meanLast_1 : cX1_meanLast.data.toList.drop 23 = dktX1_meanLast_1 := dk_seg dksX1_meanLast_0 23 rfl rfl
theorem dksX1_meanLast_2 : cX1_meanLast.data.toList.drop 47 = dktX1_meanLast_2 := dk_seg dksX1_meanLast_1 24 rfl rfl
theorem dX1_meanLast_0 : decode cX1_meanLast 0 = .ok (.iconst 0, 1) := dk_3 (dk_at dksX1_meanLast_0 0 rfl rfl)
theorem dX1_meanLast_1 : decode cX1_meanLast 1 = .ok (.istore_n 1, 1) := dk_60 (dk_at dksX1_meanLast_0 1 rfl rfl)
theorem dX1_meanLast_2 : decode cX1_meanLast 2 = .ok (.aload_n 0, 1) := dk_42 (dk_at dksX1_meanLast_0 2 rfl rfl)
theorem dX1_meanLast_3 : decode cX1_meanLast 3 = .ok (.getfield 35, 3) := dk_180 0 35 (dk_at dksX1_meanLast_0 3 rfl rfl)
theorem dX1_meanLast_6 : decode cX1_meanLast 6 = .ok (.astore_n 2, 1) := dk_77 (dk_at dksX1_meanLast_0 6 rfl rfl)
theorem dX1_meanLast_7 : decode cX1_meanLast 7 = .ok (.aload_n 2, 1) := dk_44 (dk_at dksX1_meanLast_0 7 rfl rfl)
theorem dX1_meanLast_8 : decode cX1_meanLast 8 = .ok (.arraylength, 1) := dk_190 (dk_at dksX1_meanLast_0 8 rfl rfl)
theorem dX1_meanLast_9 : decode cX1_meanLast 9 = .ok (.istore_n 3, 1) := dk_62 (dk_at dksX1_meanLast_0 9 rfl rfl)
theorem dX1_meanLast_10 : decode cX1_meanLast 10 = .ok (.iconst 0, 1) := dk_3 (dk_at dksX1_meanLast_0 10 rfl rfl)
theorem dX1_meanLast_11 : decode cX1_meanLast 11 = .ok (.istore 4, 2) := dk_54 4 (dk_at dksX1_meanLast_0 11 rfl rfl)
theorem dX1_meanLast_13 : decode cX1_meanLast 13 = .ok (.iload 4, 2) := dk_21 4 (dk_at dksX1_meanLast_0 13 rfl rfl)
theorem dX1_meanLast_15 : decode cX1_meanLast 15 = .ok (.iload_n 3, 1) := dk_29 (dk_at dksX1_meanLast_0 15 rfl rfl)
theorem dX1_meanLast_16 : decode cX1_meanLast 16 = .ok (.if_icmp .ge 29, 3) := dk_162 0 29 (dk_at dksX1_meanLast_0 16 rfl rfl)
theorem dX1_meanLast_19 : decode cX1_meanLast 19 = .ok (.aload_n 2, 1) := dk_44 (dk_at dksX1_meanLast_0 19 rfl rfl)
theorem dX1_meanLast_20 : decode cX1_meanLast 20 = .ok (.iload 4, 2) := dk_21 4 (dk_at dksX1_meanLast_0 20 rfl rfl)
theorem dX1_meanLast_22 : decode cX1_meanLast 22 = .ok (.aaload, 1) := dk_50 (dk_at dksX1_meanLast_0 22 rfl rfl)
theorem dX1_meanLast_23 : decode cX1_meanLast 23 = .ok (.astore 5, 2) := dk_58 5 (dk_at dksX1_meanLast_1 0 rfl rfl)
theorem dX1_meanLast_25 : decode cX1_meanLast 25 = .ok (.iload_n 1, 1) := dk_27 (dk_at dksX1_meanLast_1 2 rfl rfl)
theorem dX1_meanLast_26 : decode cX1_meanLast 26 = .ok (.aload_n 0, 1) := dk_42 (dk_at dksX1_meanLast_1 3 rfl rfl)
theorem dX1_meanLast_27 : decode cX1_meanLast 27 = .ok (.getfield 23, 3) := dk_180 0 23 (dk_at dksX1_meanLast_1 4 rfl rfl)
theorem dX1_meanLast_30 : decode cX1_meanLast 30 = .ok (.aload 5, 2) := dk_25 5 (dk_at dksX1_meanLast_1 7 rfl rfl)
theorem dX1_meanLast_32 : decode cX1_meanLast 32 = .ok (.invokeinterface 156 2, 5) := by decide +kernel
theorem dX1_meanLast_37 : decode cX1_meanLast 37 = .ok (.iadd, 1) := dk_96 (dk_at dksX1_meanLast_1 14 rfl rfl)
theorem dX1_meanLast_38 : decode cX1_meanLast 38 = .ok (.istore_n 1, 1) := dk_60 (dk_at dksX1_meanLast_1 15 rfl rfl)
theorem dX1_meanLast_39 : decode cX1_meanLast 39 = .ok (.iinc 4 1, 3) := dk_132 4 1 (dk_at dksX1_meanLast_1 16 rfl rfl)
theorem dX1_meanLast_42 : decode cX1_meanLast 42 = .ok (.goto (-29), 3) := dk_167 255 227 (dk_at dksX1_meanLast_1 19 rfl rfl)
theorem dX1_meanLast_45 : decode cX1_meanLast 45 = .ok (.iload_n 1, 1) := dk_27 (dk_at dksX1_meanLast_1 22 rfl rfl)
theorem dX1_meanLast_46 : decode cX1_meanLast 46 = .ok (.i2d, 1) := dk_135 (dk_at dksX1_meanLast_1 23 rfl rfl)
theorem dX1_meanLast_47 : decode cX1_meanLast 47 = .ok (.ldc2_w 342, 3) := dk_20 1 86 (dk_at dksX1_meanLast_2 0 rfl rfl)
theorem dX1_meanLast_50 : decode cX1_meanLast 50 = .ok (.ddiv, 1) := dk_111 (dk_at dksX1_meanLast_2 3 rfl rfl)
theorem dX1_meanLast_51 : decode cX1_meanLast 51 = .ok (.dreturn, 1) := dk_175 (dk_at dksX1_meanLast_2 4 rfl rfl)
abbrev cX1_isSound : ByteArray := prog_1_method_62_code
def yX1_isSound : MethodName := ⟨RX1, "isSound", "()Z"⟩
def dkwX1_isSound_1 : List UInt8 := [182, 1, 113, 153, 0, 14, 42, 182, 1, 116, 153, 0, 7, 4, 167, 0, 4, 3, 172]
abbrev dktX1_isSound_1 : List UInt8 := dkwX1_isSound_1 ++ []
def dkwX1_isSound_0 : List UInt8 := [42, 180, 0, 52, 153, 0, 35, 42, 180, 0, 56, 153, 0, 28, 42, 182, 1, 110, 153, 0, 21, 42]
abbrev dktX1_isSound_0 : List UInt8 := dkwX1_isSound_0 ++ dktX1_isSound_1
theorem dksX1_isSound_0 : cX1_isSound.data.toList.drop 0 = dktX1_isSound_0 := by decide +kernel
theorem dksX1_isSound_1 : cX1_isSound.data.toList.drop 22 = dktX1_isSound_1 := dk_seg dksX1_isSound_0 22 rfl rfl
theorem dX1_isSound_0 : decode cX1_isSound 0 = .ok (.aload_n 0, 1) := dk_42 (dk_at dksX1_isSound_0 0 rfl rfl)
theorem dX1_isSound_1 : decode cX1_isSound 1 = .ok (.getfield 52, 3) := dk_180 0 52 (dk_at dksX1_isSound_0 1 rfl rfl)
theorem dX1_isSound_4 : decode cX1_isSound 4 = .ok (.ifCond .eq 35, 3) := dk_153 0 35 (dk_at dksX1_isSound_0 4 rfl rfl)
theorem dX1_isSound_7 : decode cX1_isSound 7 = .ok (.aload_n 0, 1) := dk_42 (dk_at dksX1_isSound_0 7 rfl rfl)
theorem dX1_isSound_8 : decode cX1_isSound 8 = .ok (.getfield 56, 3) := dk_180 0 56 (dk_at dksX1_isSound_0 8 rfl rfl)
theorem dX1_isSound_11 : decode cX1_isSound 11 = .ok (.ifCond .eq 28, 3) := dk_153 0 28 (dk_at dksX1_isSound_0 11 rfl rfl)
theorem dX1_isSound_14 : decode cX1_isSound 14 = .ok (.aload_n 0, 1) := dk_42 (dk_at dksX1_isSound_0 14 rfl rfl)
theorem dX1_isSound_15 : decode cX1_isSound 15 = .ok (.invokevirtual 366, 3) := dk_182 1 110 (dk_at dksX1_isSound_0 15 rfl rfl)
theorem dX1_isSound_18 : decode cX1_isSound 18 = .ok (.ifCond .eq 21, 3) := dk_153 0 21 (dk_at dksX1_isSound_0 18 rfl rfl)
theorem dX1_isSound_21 : decode cX1_isSound 21 = .ok (.aload_n 0, 1) := dk_42 (dk_at dksX1_isSound_0 21 rfl rfl)
theorem dX1_isSound_22 : decode cX1_isSound 22 = .ok (.invokevirtual 369, 3) := dk_182 1 113 (dk_at dksX1_isSound_1 0 rfl rfl)
theorem dX1_isSound_25 : decode cX1_isSound 25 = .ok (.ifCond .eq 14, 3) := dk_153 0 14 (dk_at dksX1_isSound_1 3 rfl rfl)
theorem dX1_isSound_28 : decode cX1_isSound 28 = .ok (.aload_n 0, 1) := dk_42 (dk_at dksX1_isSound_1 6 rfl rfl)
theorem dX1_isSound_29 : decode cX1_isSound 29 = .ok (.invokevirtual 372, 3) := dk_182 1 116 (dk_at dksX1_isSound_1 7 rfl rfl)
theorem dX1_isSound_32 : decode cX1_isSound 32 = .ok (.ifCond .eq 7, 3) := dk_153 0 7 (dk_at dksX1_isSound_1 10 rfl rfl)
theorem dX1_isSound_35 : decode cX1_isSound 35 = .ok (.iconst 1, 1) := dk_4 (dk_at dksX1_isSound_1 13 rfl rfl)
theorem dX1_isSound_36 : decode cX1_isSound 36 = .ok (.goto 4, 3) := dk_167 0 4 (dk_at dksX1_isSound_1 14 rfl rfl)
theorem dX1_isSound_39 : decode cX1_isSound 39 = .ok (.iconst 0, 1) := dk_3 (dk_at dksX1_isSound_1 17 rfl rfl)
theorem dX1_isSound_40 : decode cX1_isSound 40 = .ok (.ireturn, 1) := dk_172 (dk_at dksX1_isSound_1 18 rfl rfl)
abbrev cX1_hasOneLeaderATerm : ByteArray := prog_1_method_59_code
def yX1_hasOneLeaderATerm : MethodName := ⟨RX1, "hasOneLeaderATerm", "()Z"⟩
def dkwX1_hasOneLeaderATerm_5 : List UInt8 := [167, 0, 4, 3, 60, 132, 8, 1, 167, 255, 173, 132, 4, 1, 167, 255, 141, 27, 172]
abbrev dktX1_hasOneLeaderATerm_5 : List UInt8 := dkwX1_hasOneLeaderATerm_5 ++ []
def dkwX1_hasOneLeaderATerm_4 : List UInt8 := [180, 0, 152, 16, 108, 160, 0, 16, 25, 5, 180, 0, 253, 25, 9, 180, 0, 253, 159, 0, 7, 4]
abbrev dktX1_hasOneLeaderATerm_4 : List UInt8 := dkwX1_hasOneLeaderATerm_4 ++ dktX1_hasOneLeaderATerm_5
def dkwX1_hasOneLeaderATerm_3 : List UInt8 := [153, 0, 44, 25, 9, 180, 0, 113, 153, 0, 36, 25, 5, 180, 0, 152, 16, 108, 160, 0, 26, 25, 9]
abbrev dktX1_hasOneLeaderATerm_3 : List UInt8 := dkwX1_hasOneLeaderATerm_3 ++ dktX1_hasOneLeaderATerm_4
def dkwX1_hasOneLeaderATerm_2 : List UInt8 := [25, 6, 21, 8, 50, 58, 9, 27, 153, 0, 63, 25, 5, 25, 9, 165, 0, 52, 25, 5, 180, 0, 113]
abbrev dktX1_hasOneLeaderATerm_2 : List UInt8 := dkwX1_hasOneLeaderATerm_2 ++ dktX1_hasOneLeaderATerm_3
def dkwX1_hasOneLeaderATerm_1 : List UInt8 := [58, 5, 42, 180, 0, 35, 58, 6, 25, 6, 190, 54, 7, 3, 54, 8, 21, 8, 21, 7, 162, 0, 82]
abbrev dktX1_hasOneLeaderATerm_1 : List UInt8 := dkwX1_hasOneLeaderATerm_1 ++ dktX1_hasOneLeaderATerm_2
def dkwX1_hasOneLeaderATerm_0 : List UInt8 := [4, 60, 42, 180, 0, 35, 77, 44, 190, 62, 3, 54, 4, 21, 4, 29, 162, 0, 115, 44, 21, 4, 50]
abbrev dktX1_hasOneLeaderATerm_0 : List UInt8 := dkwX1_hasOneLeaderATerm_0 ++ dktX1_hasOneLeaderATerm_1
theorem dksX1_hasOneLeaderATerm_0 : cX1_hasOneLeaderATerm.data.toList.drop 0 = dktX1_hasOneLeaderATerm_0 := by decide +kernel
theorem dksX1_hasOneLeaderATerm_1 : cX1_hasOneLeaderATerm.data.toList.drop 23 = dktX1_hasOneLeaderATerm_1 := dk_seg dksX1_hasOneLeaderATerm_0 23 rfl rfl
theorem dksX1_hasOneLeaderATerm_2 : cX1_hasOneLeaderATerm.data.toList.drop 46 = dktX1_hasOneLeaderATerm_2 := dk_seg dksX1_hasOneLeaderATerm_1 23 rfl rfl
theorem dksX1_hasOneLeaderATerm_3 : cX1_hasOneLeaderATerm.data.toList.drop 69 = dktX1_hasOneLeaderATerm_3 := dk_seg dksX1_hasOneLeaderATerm_2 23 rfl rfl
theorem dksX1_hasOneLeaderATerm_4 : cX1_hasOneLeaderATerm.data.toList.drop 92 = dktX1_hasOneLeaderATerm_4 := dk_seg dksX1_hasOneLeaderATerm_3 23 rfl rfl
theorem dksX1_hasOneLeaderATerm_5 : cX1_hasOneLeaderATerm.data.toList.drop 114 = dktX1_hasOneLeaderATerm_5 := dk_seg dksX1_hasOneLeaderATerm_4 22 rfl rfl
theorem dX1_hasOneLeaderATerm_0 : decode cX1_hasOneLeaderATerm 0 = .ok (.iconst 1, 1) := dk_4 (dk_at dksX1_hasOneLeaderATerm_0 0 rfl rfl)
theorem dX1_hasOneLeaderATerm_1 : decode cX1_hasOneLeaderATerm 1 = .ok (.istore_n 1, 1) := dk_60 (dk_at dksX1_hasOneLeaderATerm_0 1 rfl rfl)
theorem dX1_hasOneLeaderATerm_2 : decode cX1_hasOneLeaderATerm 2 = .ok (.aload_n 0, 1) := dk_42 (dk_at dksX1_hasOneLeaderATerm_0 2 rfl rfl)
theorem dX1_hasOneLeaderATerm_3 : decode cX1_hasOneLeaderATerm 3 = .ok (.getfield 35, 3) := dk_180 0 35 (dk_at dksX1_hasOneLeaderATerm_0 3 rfl rfl)
theorem dX1_hasOneLeaderATerm_6 : decode cX1_hasOneLeaderATerm 6 = .ok (.astore_n 2, 1) := dk_77 (dk_at dksX1_hasOneLeaderATerm_0 6 rfl rfl)
theorem dX1_hasOneLeaderATerm_7 : decode cX1_hasOneLeaderATerm 7 = .ok (.aload_n 2, 1) := dk_44 (dk_at dksX1_hasOneLeaderATerm_0 7 rfl rfl)
theorem dX1_hasOneLeaderATerm_8 : decode cX1_hasOneLeaderATerm 8 = .ok (.arraylength, 1) := dk_190 (dk_at dksX1_hasOneLeaderATerm_0 8 rfl rfl)
theorem dX1_hasOneLeaderATerm_9 : decode cX1_hasOneLeaderATerm 9 = .ok (.istore_n 3, 1) := dk_62 (dk_at dksX1_hasOneLeaderATerm_0 9 rfl rfl)
theorem dX1_hasOneLeaderATerm_10 : decode cX1_hasOneLeaderATerm 10 = .ok (.iconst 0, 1) := dk_3 (dk_at dksX1_hasOneLeaderATerm_0 10 rfl rfl)
theorem dX1_hasOneLeaderATerm_11 : decode cX1_hasOneLeaderATerm 11 = .ok (.istore 4, 2) := dk_54 4 (dk_at dksX1_hasOneLeaderATerm_0 11 rfl rfl)
theorem dX1_hasOneLeaderATerm_13 : decode cX1_hasOneLeaderATerm 13 = .ok (.iload 4, 2) := dk_21 4 (dk_at dksX1_hasOneLeaderATerm_0 13 rfl rfl)
theorem dX1_hasOneLeaderATerm_15 : decode cX1_hasOneLeaderATerm 15 = .ok (.iload_n 3, 1) := dk_29 (dk_at dksX1_hasOneLeaderATerm_0 15 rfl rfl)
theorem dX1_hasOneLeaderATerm_16 : decode cX1_hasOneLeaderATerm 16 = .ok (.if_icmp .ge 115, 3) := dk_162 0 115 (dk_at dksX1_hasOneLeaderATerm_0 16 rfl rfl)
theorem dX1_hasOneLeaderATerm_19 : decode cX1_hasOneLeaderATerm 19 = .ok (.aload_n 2, 1) := dk_44 (dk_at dksX1_hasOneLeaderATerm_0 19 rfl rfl)
theorem dX1_hasOneLeaderATerm_20 : decode cX1_hasOneLeaderATerm 20 = .ok (.iload 4, 2) := dk_21 4 (dk_at dksX1_hasOneLeaderATerm_0 20 rfl rfl)
theorem dX1_hasOneLeaderATerm_22 : decode cX1_hasOneLeaderATerm 22 = .ok (.aaload, 1) := dk_50 (dk_at dksX1_hasOneLeaderATerm_0 22 rfl rfl)
theorem dX1_hasOneLeaderATerm_23 : decode cX1_hasOneLeaderATerm 23 = .ok (.astore 5, 2) := dk_58 5 (dk_at dksX1_hasOneLeaderATerm_1 0 rfl rfl)
theorem dX1_hasOneLeaderATerm_25 : decode cX1_hasOneLeaderATerm 25 = .ok (.aload_n 0, 1) := dk_42 (dk_at dksX1_hasOneLeaderATerm_1 2 rfl rfl)
theorem dX1_hasOneLeaderATerm_26 : decode cX1_hasOneLeaderATerm 26 = .ok (.getfield 35, 3) := dk_180 0 35 (dk_at dksX1_hasOneLeaderATerm_1 3 rfl rfl)
theorem dX1_hasOneLeaderATerm_29 : decode cX1_hasOneLeaderATerm 29 = .ok (.astore 6, 2) := dk_58 6 (dk_at dksX1_hasOneLeaderATerm_1 6 rfl rfl)
theorem dX1_hasOneLeaderATerm_31 : decode cX1_hasOneLeaderATerm 31 = .ok (.aload 6, 2) := dk_25 6 (dk_at dksX1_hasOneLeaderATerm_1 8 rfl rfl)
theorem dX1_hasOneLeaderATerm_33 : decode cX1_hasOneLeaderATerm 33 = .ok (.arraylength, 1) := dk_190 (dk_at dksX1_hasOneLeaderATerm_1 10 rfl rfl)
theorem dX1_hasOneLeaderATerm_34 : decode cX1_hasOneLeaderATerm 34 = .ok (.istore 7, 2) := dk_54 7 (dk_at dksX1_hasOneLeaderATerm_1 11 rfl rfl)
theorem dX1_hasOneLeaderATerm_36 : decode cX1_hasOneLeaderATerm 36 = .ok (.iconst 0, 1) := dk_3 (dk_at dksX1_hasOneLeaderATerm_1 13 rfl rfl)
theorem dX1_hasOneLeaderATerm_37 : decode cX1_hasOneLeaderATerm 37 = .ok (.istore 8, 2) := dk_54 8 (dk_at dksX1_hasOneLeaderATerm_1 14 rfl rfl)
theorem dX1_hasOneLeaderATerm_39 : decode cX1_hasOneLeaderATerm 39 = .ok (.iload 8, 2) := dk_21 8 (dk_at dksX1_hasOneLeaderATerm_1 16 rfl rfl)
theorem dX1_hasOneLeaderATerm_41 : decode cX1_hasOneLeaderATerm 41 = .ok (.iload 7, 2) := dk_21 7 (dk_at dksX1_hasOneLeaderATerm_1 18 rfl rfl)
theorem dX1_hasOneLeaderATerm_43 : decode cX1_hasOneLeaderATerm 43 = .ok (.if_icmp .ge 82, 3) := dk_162 0 82 (dk_at dksX1_hasOneLeaderATerm_1 20 rfl rfl)
theorem dX1_hasOneLeaderATerm_46 : decode cX1_hasOneLeaderATerm 46 = .ok (.aload 6, 2) := dk_25 6 (dk_at dksX1_hasOneLeaderATerm_2 0 rfl rfl)
theorem dX1_hasOneLeaderATerm_48 : decode cX1_hasOneLeaderATerm 48 = .ok (.iload 8, 2) := dk_21 8 (dk_at dksX1_hasOneLeaderATerm_2 2 rfl rfl)
theorem dX1_hasOneLeaderATerm_50 : decode cX1_hasOneLeaderATerm 50 = .ok (.aaload, 1) := dk_50 (dk_at dksX1_hasOneLeaderATerm_2 4 rfl rfl)
theorem dX1_hasOneLeaderATerm_51 : decode cX1_hasOneLeaderATerm 51 = .ok (.astore 9, 2) := dk_58 9 (dk_at dksX1_hasOneLeaderATerm_2 5 rfl rfl)
theorem dX1_hasOneLeaderATerm_53 : decode cX1_hasOneLeaderATerm 53 = .ok (.iload_n 1, 1) := dk_27 (dk_at dksX1_hasOneLeaderATerm_2 7 rfl rfl)
theorem dX1_hasOneLeaderATerm_54 : decode cX1_hasOneLeaderATerm 54 = .ok (.ifCond .eq 63, 3) := dk_153 0 63 (dk_at dksX1_hasOneLeaderATerm_2 8 rfl rfl)
theorem dX1_hasOneLeaderATerm_57 : decode cX1_hasOneLeaderATerm 57 = .ok (.aload 5, 2) := dk_25 5 (dk_at dksX1_hasOneLeaderATerm_2 11 rfl rfl)
theorem dX1_hasOneLeaderATerm_59 : decode cX1_hasOneLeaderATerm 59 = .ok (.aload 9, 2) := dk_25 9 (dk_at dksX1_hasOneLeaderATerm_2 13 rfl rfl)
theorem dX1_hasOneLeaderATerm_61 : decode cX1_hasOneLeaderATerm 61 = .ok (.if_acmp .eq 52, 3) := dk_165 0 52 (dk_at dksX1_hasOneLeaderATerm_2 15 rfl rfl)
theorem dX1_hasOneLeaderATerm_64 : decode cX1_hasOneLeaderATerm 64 = .ok (.aload 5, 2) := dk_25 5 (dk_at dksX1_hasOneLeaderATerm_2 18 rfl rfl)
theorem dX1_hasOneLeaderATerm_66 : decode cX1_hasOneLeaderATerm 66 = .ok (.getfield 113, 3) := dk_180 0 113 (dk_at dksX1_hasOneLeaderATerm_2 20 rfl rfl)
theorem dX1_hasOneLeaderATerm_69 : decode cX1_hasOneLeaderATerm 69 = .ok (.ifCond .eq 44, 3) := dk_153 0 44 (dk_at dksX1_hasOneLeaderATerm_3 0 rfl rfl)
theorem dX1_hasOneLeaderATerm_72 : decode cX1_hasOneLeaderATerm 72 = .ok (.aload 9, 2) := dk_25 9 (dk_at dksX1_hasOneLeaderATerm_3 3 rfl rfl)
theorem dX1_hasOneLeaderATerm_74 : decode cX1_hasOneLeaderATerm 74 = .ok (.getfield 113, 3) := dk_180 0 113 (dk_at dksX1_hasOneLeaderATerm_3 5 rfl rfl)
theorem dX1_hasOneLeaderATerm_77 : decode cX1_hasOneLeaderATerm 77 = .ok (.ifCond .eq 36, 3) := dk_153 0 36 (dk_at dksX1_hasOneLeaderATerm_3 8 rfl rfl)
theorem dX1_hasOneLeaderATerm_80 : decode cX1_hasOneLeaderATerm 80 = .ok (.aload 5, 2) := dk_25 5 (dk_at dksX1_hasOneLeaderATerm_3 11 rfl rfl)
theorem dX1_hasOneLeaderATerm_82 : decode cX1_hasOneLeaderATerm 82 = .ok (.getfield 152, 3) := dk_180 0 152 (dk_at dksX1_hasOneLeaderATerm_3 13 rfl rfl)
theorem dX1_hasOneLeaderATerm_85 : decode cX1_hasOneLeaderATerm 85 = .ok (.bipush 108, 2) := dk_16 108 (dk_at dksX1_hasOneLeaderATerm_3 16 rfl rfl)
theorem dX1_hasOneLeaderATerm_87 : decode cX1_hasOneLeaderATerm 87 = .ok (.if_icmp .ne 26, 3) := dk_160 0 26 (dk_at dksX1_hasOneLeaderATerm_3 18 rfl rfl)
theorem dX1_hasOneLeaderATerm_90 : decode cX1_hasOneLeaderATerm 90 = .ok (.aload 9, 2) := dk_25 9 (dk_at dksX1_hasOneLeaderATerm_3 21 rfl rfl)
theorem dX1_hasOneLeaderATerm_92 : decode cX1_hasOneLeaderATerm 92 = .ok (.getfield 152, 3) := dk_180 0 152 (dk_at dksX1_hasOneLeaderATerm_4 0 rfl rfl)
theorem dX1_hasOneLeaderATerm_95 : decode cX1_hasOneLeaderATerm 95 = .ok (.bipush 108, 2) := dk_16 108 (dk_at dksX1_hasOneLeaderATerm_4 3 rfl rfl)
theorem dX1_hasOneLeaderATerm_97 : decode cX1_hasOneLeaderATerm 97 = .ok (.if_icmp .ne 16, 3) := dk_160 0 16 (dk_at dksX1_hasOneLeaderATerm_4 5 rfl rfl)
theorem dX1_hasOneLeaderATerm_100 : decode cX1_hasOneLeaderATerm 100 = .ok (.aload 5, 2) := dk_25 5 (dk_at dksX1_hasOneLeaderATerm_4 8 rfl rfl)
theorem dX1_hasOneLeaderATerm_102 : decode cX1_hasOneLeaderATerm 102 = .ok (.getfield 253, 3) := dk_180 0 253 (dk_at dksX1_hasOneLeaderATerm_4 10 rfl rfl)
theorem dX1_hasOneLeaderATerm_105 : decode cX1_hasOneLeaderATerm 105 = .ok (.aload 9, 2) := dk_25 9 (dk_at dksX1_hasOneLeaderATerm_4 13 rfl rfl)
theorem dX1_hasOneLeaderATerm_107 : decode cX1_hasOneLeaderATerm 107 = .ok (.getfield 253, 3) := dk_180 0 253 (dk_at dksX1_hasOneLeaderATerm_4 15 rfl rfl)
theorem dX1_hasOneLeaderATerm_110 : decode cX1_hasOneLeaderATerm 110 = .ok (.if_icmp .eq 7, 3) := dk_159 0 7 (dk_at dksX1_hasOneLeaderATerm_4 18 rfl rfl)
theorem dX1_hasOneLeaderATerm_113 : decode cX1_hasOneLeaderATerm 113 = .ok (.iconst 1, 1) := dk_4 (dk_at dksX1_hasOneLeaderATerm_4 21 rfl rfl)
theorem dX1_hasOneLeaderATerm_114 : decode cX1_hasOneLeaderATerm 114 = .ok (.goto 4, 3) := dk_167 0 4 (dk_at dksX1_hasOneLeaderATerm_5 0 rfl rfl)
theorem dX1_hasOneLeaderATerm_117 : decode cX1_hasOneLeaderATerm 117 = .ok (.iconst 0, 1) := dk_3 (dk_at dksX1_hasOneLeaderATerm_5 3 rfl rfl)
theorem dX1_hasOneLeaderATerm_118 : decode cX1_hasOneLeaderATerm 118 = .ok (.istore_n 1, 1) := dk_60 (dk_at dksX1_hasOneLeaderATerm_5 4 rfl rfl)
theorem dX1_hasOneLeaderATerm_119 : decode cX1_hasOneLeaderATerm 119 = .ok (.iinc 8 1, 3) := dk_132 8 1 (dk_at dksX1_hasOneLeaderATerm_5 5 rfl rfl)
theorem dX1_hasOneLeaderATerm_122 : decode cX1_hasOneLeaderATerm 122 = .ok (.goto (-83), 3) := dk_167 255 173 (dk_at dksX1_hasOneLeaderATerm_5 8 rfl rfl)
theorem dX1_hasOneLeaderATerm_125 : decode cX1_hasOneLeaderATerm 125 = .ok (.iinc 4 1, 3) := dk_132 4 1 (dk_at dksX1_hasOneLeaderATerm_5 11 rfl rfl)
theorem dX1_hasOneLeaderATerm_128 : decode cX1_hasOneLeaderATerm 128 = .ok (.goto (-115), 3) := dk_167 255 141 (dk_at dksX1_hasOneLeaderATerm_5 14 rfl rfl)
theorem dX1_hasOneLeaderATerm_131 : decode cX1_hasOneLeaderATerm 131 = .ok (.iload_n 1, 1) := dk_27 (dk_at dksX1_hasOneLeaderATerm_5 17 rfl rfl)
theorem dX1_hasOneLeaderATerm_132 : decode cX1_hasOneLeaderATerm 132 = .ok (.ireturn, 1) := dk_172 (dk_at dksX1_hasOneLeaderATerm_5 18 rfl rfl)
abbrev cX1_doLogsMatch : ByteArray := prog_1_method_60_code
def yX1_doLogsMatch : MethodName := ⟨RX1, "doLogsMatch", "()Z"⟩
def dkwX1_doLogsMatch_8 : List UInt8 := [29, 172]
abbrev dktX1_doLogsMatch_8 : List UInt8 := dkwX1_doLogsMatch_8 ++ []
def dkwX1_doLogsMatch_7 : List UInt8 := [182, 1, 98, 160, 0, 7, 4, 167, 0, 4, 3, 62, 132, 8, 1, 167, 255, 135, 132, 6, 1, 167, 255, 103]
abbrev dktX1_doLogsMatch_7 : List UInt8 := dkwX1_doLogsMatch_7 ++ dktX1_doLogsMatch_8
def dkwX1_doLogsMatch_6 : List UInt8 := [182, 0, 90, 153, 0, 29, 25, 12, 198, 0, 20, 25, 12, 182, 1, 107, 25, 7, 21, 8, 4, 100]
abbrev dktX1_doLogsMatch_6 : List UInt8 := dkwX1_doLogsMatch_6 ++ dktX1_doLogsMatch_7
def dkwX1_doLogsMatch_5 : List UInt8 := [184, 1, 101, 182, 1, 94, 192, 1, 102, 58, 12, 29, 153, 0, 44, 25, 11, 198, 0, 13, 25, 11, 25, 9]
abbrev dktX1_doLogsMatch_5 : List UInt8 := dkwX1_doLogsMatch_5 ++ dktX1_doLogsMatch_6
def dkwX1_doLogsMatch_4 : List UInt8 := [25, 9, 182, 1, 94, 192, 0, 88, 58, 11, 44, 25, 10, 25, 7, 21, 8, 4, 100, 182, 1, 98]
abbrev dktX1_doLogsMatch_4 : List UInt8 := dkwX1_doLogsMatch_4 ++ dktX1_doLogsMatch_5
def dkwX1_doLogsMatch_3 : List UInt8 := [182, 0, 181, 58, 9, 187, 1, 91, 89, 21, 8, 25, 9, 180, 0, 189, 183, 1, 93, 58, 10, 43, 25, 10]
abbrev dktX1_doLogsMatch_3 : List UInt8 := dkwX1_doLogsMatch_3 ++ dktX1_doLogsMatch_4
def dkwX1_doLogsMatch_2 : List UInt8 := [180, 0, 140, 180, 0, 144, 4, 96, 54, 8, 21, 8, 25, 7, 182, 1, 1, 163, 0, 117, 25, 7, 21, 8]
abbrev dktX1_doLogsMatch_2 : List UInt8 := dkwX1_doLogsMatch_2 ++ dktX1_doLogsMatch_3
def dkwX1_doLogsMatch_1 : List UInt8 := [25, 4, 190, 54, 5, 3, 54, 6, 21, 6, 21, 5, 162, 0, 152, 25, 4, 21, 6, 50, 58, 7, 25, 7]
abbrev dktX1_doLogsMatch_1 : List UInt8 := dkwX1_doLogsMatch_1 ++ dktX1_doLogsMatch_2
def dkwX1_doLogsMatch_0 : List UInt8 := [187, 1, 88, 89, 183, 1, 90, 76, 187, 1, 88, 89, 183, 1, 90, 77, 4, 62, 42, 180, 0, 35, 58, 4]
abbrev dktX1_doLogsMatch_0 : List UInt8 := dkwX1_doLogsMatch_0 ++ dktX1_doLogsMatch_1
theorem dksX1_doLogsMatch_0 : cX1_doLogsMatch.data.toList.drop 0 = dktX1_doLogsMatch_0 := by decide +kernel
theorem dksX1_doLogsMatch_1 : cX1_doLogsMatch.data.toList.drop 24 = dktX1_doLogsMatch_1 := dk_seg dksX1_doLogsMatch_0 24 rfl rfl
theorem dksX1_doLogsMatch_2 : cX1_doLogsMatch.data.toList.drop 48 = dktX1_doLogsMatch_2 := dk_seg dksX1_doLogsMatch_1 24 rfl rfl
theorem dksX1_doLogsMatch_3 : cX1_doLogsMatch.data.toList.drop 72 = dktX1_doLogsMatch_3 := dk_seg dksX1_doLogsMatch_2 24 rfl rfl
theorem dksX1_doLogsMatch_4 : cX1_doLogsMatch.data.toList.drop 96 = dktX1_doLogsMatch_4 := dk_seg dksX1_doLogsMatch_3 24 rfl rfl
theorem dksX1_doLogsMatch_5 : cX1_doLogsMatch.data.toList.drop 118 = dktX1_doLogsMatch_5 := dk_seg dksX1_doLogsMatch_4 22 rfl rfl
theorem dksX1_doLogsMatch_6 : cX1_doLogsMatch.data.toList.drop 142 = dktX1_doLogsMatch_6 := dk_seg dksX1_doLogsMatch_5 24 rfl rfl
theorem dksX1_doLogsMatch_7 : cX1_doLogsMatch.data.toList.drop 164 = dktX1_doLogsMatch_7 := dk_seg dksX1_doLogsMatch_6 22 rfl rfl
theorem dksX1_doLogsMatch_8 : cX1_doLogsMatch.data.toList.drop 188 = dktX1_doLogsMatch_8 := dk_seg dksX1_doLogsMatch_7 24 rfl rfl
theorem dX1_doLogsMatch_0 : decode cX1_doLogsMatch 0 = .ok (.new 344, 3) := dk_187 1 88 (dk_at dksX1_doLogsMatch_0 0 rfl rfl)
theorem dX1_doLogsMatch_3 : decode cX1_doLogsMatch 3 = .ok (.dup, 1) := dk_89 (dk_at dksX1_doLogsMatch_0 3 rfl rfl)
theorem dX1_doLogsMatch_4 : decode cX1_doLogsMatch 4 = .ok (.invokespecial 346, 3) := dk_183 1 90 (dk_at dksX1_doLogsMatch_0 4 rfl rfl)
theorem dX1_doLogsMatch_7 : decode cX1_doLogsMatch 7 = .ok (.astore_n 1, 1) := dk_76 (dk_at dksX1_doLogsMatch_0 7 rfl rfl)
theorem dX1_doLogsMatch_8 : decode cX1_doLogsMatch 8 = .ok (.new 344, 3) := dk_187 1 88 (dk_at dksX1_doLogsMatch_0 8 rfl rfl)
theorem dX1_doLogsMatch_11 : decode cX1_doLogsMatch 11 = .ok (.dup, 1) := dk_89 (dk_at dksX1_doLogsMatch_0 11 rfl rfl)
theorem dX1_doLogsMatch_12 : decode cX1_doLogsMatch 12 = .ok (.invokespecial 346, 3) := dk_183 1 90 (dk_at dksX1_doLogsMatch_0 12 rfl rfl)
theorem dX1_doLogsMatch_15 : decode cX1_doLogsMatch 15 = .ok (.astore_n 2, 1) := dk_77 (dk_at dksX1_doLogsMatch_0 15 rfl rfl)
theorem dX1_doLogsMatch_16 : decode cX1_doLogsMatch 16 = .ok (.iconst 1, 1) := dk_4 (dk_at dksX1_doLogsMatch_0 16 rfl rfl)
theorem dX1_doLogsMatch_17 : decode cX1_doLogsMatch 17 = .ok (.istore_n 3, 1) := dk_62 (dk_at dksX1_doLogsMatch_0 17 rfl rfl)
theorem dX1_doLogsMatch_18 : decode cX1_doLogsMatch 18 = .ok (.aload_n 0, 1) := dk_42 (dk_at dksX1_doLogsMatch_0 18 rfl rfl)
theorem dX1_doLogsMatch_19 : decode cX1_doLogsMatch 19 = .ok (.getfield 35, 3) := dk_180 0 35 (dk_at dksX1_doLogsMatch_0 19 rfl rfl)
theorem dX1_doLogsMatch_22 : decode cX1_doLogsMatch 22 = .ok (.astore 4, 2) := dk_58 4 (dk_at dksX1_doLogsMatch_0 22 rfl rfl)
theorem dX1_doLogsMatch_24 : decode cX1_doLogsMatch 24 = .ok (.aload 4, 2) := dk_25 4 (dk_at dksX1_doLogsMatch_1 0 rfl rfl)
theorem dX1_doLogsMatch_26 : decode cX1_doLogsMatch 26 = .ok (.arraylength, 1) := dk_190 (dk_at dksX1_doLogsMatch_1 2 rfl rfl)
theorem dX1_doLogsMatch_27 : decode cX1_doLogsMatch 27 = .ok (.istore 5, 2) := dk_54 5 (dk_at dksX1_doLogsMatch_1 3 rfl rfl)
theorem dX1_doLogsMatch_29 : decode cX1_doLogsMatch 29 = .ok (.iconst 0, 1) := dk_3 (dk_at dksX1_doLogsMatch_1 5 rfl rfl)
theorem dX1_doLogsMatch_30 : decode cX1_doLogsMatch 30 = .ok (.istore 6, 2) := dk_54 6 (dk_at dksX1_doLogsMatch_1 6 rfl rfl)
theorem dX1_doLogsMatch_32 : decode cX1_doLogsMatch 32 = .ok (.iload 6, 2) := dk_21 6 (dk_at dksX1_doLogsMatch_1 8 rfl rfl)
theorem dX1_doLogsMatch_34 : decode cX1_doLogsMatch 34 = .ok (.iload 5, 2) := dk_21 5 (dk_at dksX1_doLogsMatch_1 10 rfl rfl)
theorem dX1_doLogsMatch_36 : decode cX1_doLogsMatch 36 = .ok (.if_icmp .ge 152, 3) := dk_162 0 152 (dk_at dksX1_doLogsMatch_1 12 rfl rfl)
theorem dX1_doLogsMatch_39 : decode cX1_doLogsMatch 39 = .ok (.aload 4, 2) := dk_25 4 (dk_at dksX1_doLogsMatch_1 15 rfl rfl)
theorem dX1_doLogsMatch_41 : decode cX1_doLogsMatch 41 = .ok (.iload 6, 2) := dk_21 6 (dk_at dksX1_doLogsMatch_1 17 rfl rfl)
theorem dX1_doLogsMatch_43 : decode cX1_doLogsMatch 43 = .ok (.aaload, 1) := dk_50 (dk_at dksX1_doLogsMatch_1 19 rfl rfl)
theorem dX1_doLogsMatch_44 : decode cX1_doLogsMatch 44 = .ok (.astore 7, 2) := dk_58 7 (dk_at dksX1_doLogsMatch_1 20 rfl rfl)
theorem dX1_doLogsMatch_46 : decode cX1_doLogsMatch 46 = .ok (.aload 7, 2) := dk_25 7 (dk_at dksX1_doLogsMatch_1 22 rfl rfl)
theorem dX1_doLogsMatch_48 : decode cX1_doLogsMatch 48 = .ok (.getfield 140, 3) := dk_180 0 140 (dk_at dksX1_doLogsMatch_2 0 rfl rfl)
theorem dX1_doLogsMatch_51 : decode cX1_doLogsMatch 51 = .ok (.getfield 144, 3) := dk_180 0 144 (dk_at dksX1_doLogsMatch_2 3 rfl rfl)
theorem dX1_doLogsMatch_54 : decode cX1_doLogsMatch 54 = .ok (.iconst 1, 1) := dk_4 (dk_at dksX1_doLogsMatch_2 6 rfl rfl)
theorem dX1_doLogsMatch_55 : decode cX1_doLogsMatch 55 = .ok (.iadd, 1) := dk_96 (dk_at dksX1_doLogsMatch_2 7 rfl rfl)
theorem dX1_doLogsMatch_56 : decode cX1_doLogsMatch 56 = .ok (.istore 8, 2) := dk_54 8 (dk_at dksX1_doLogsMatch_2 8 rfl rfl)
theorem dX1_doLogsMatch_58 : decode cX1_doLogsMatch 58 = .ok (.iload 8, 2) := dk_21 8 (dk_at dksX1_doLogsMatch_2 10 rfl rfl)
theorem dX1_doLogsMatch_60 : decode cX1_doLogsMatch 60 = .ok (.aload 7, 2) := dk_25 7 (dk_at dksX1_doLogsMatch_2 12 rfl rfl)
theorem dX1_doLogsMatch_62 : decode cX1_doLogsMatch 62 = .ok (.invokevirtual 257, 3) := dk_182 1 1 (dk_at dksX1_doLogsMatch_2 14 rfl rfl)
theorem dX1_doLogsMatch_65 : decode cX1_doLogsMatch 65 = .ok (.if_icmp .gt 117, 3) := dk_163 0 117 (dk_at dksX1_doLogsMatch_2 17 rfl rfl)
theorem dX1_doLogsMatch_68 : decode cX1_doLogsMatch 68 = .ok (.aload 7, 2) := dk_25 7 (dk_at dksX1_doLogsMatch_2 20 rfl rfl)
theorem dX1_doLogsMatch_70 : decode cX1_doLogsMatch 70 = .ok (.iload 8, 2) := dk_21 8 (dk_at dksX1_doLogsMatch_2 22 rfl rfl)
theorem dX1_doLogsMatch_72 : decode cX1_doLogsMatch 72 = .ok (.invokevirtual 181, 3) := dk_182 0 181 (dk_at dksX1_doLogsMatch_3 0 rfl rfl)
theorem dX1_doLogsMatch_75 : decode cX1_doLogsMatch 75 = .ok (.astore 9, 2) := dk_58 9 (dk_at dksX1_doLogsMatch_3 3 rfl rfl)
theorem dX1_doLogsMatch_77 : decode cX1_doLogsMatch 77 = .ok (.new 347, 3) := dk_187 1 91 (dk_at dksX1_doLogsMatch_3 5 rfl rfl)
theorem dX1_doLogsMatch_80 : decode cX1_doLogsMatch 80 = .ok (.dup, 1) := dk_89 (dk_at dksX1_doLogsMatch_3 8 rfl rfl)
theorem dX1_doLogsMatch_81 : decode cX1_doLogsMatch 81 = .ok (.iload 8, 2) := dk_21 8 (dk_at dksX1_doLogsMatch_3 9 rfl rfl)
theorem dX1_doLogsMatch_83 : decode cX1_doLogsMatch 83 = .ok (.aload 9, 2) := dk_25 9 (dk_at dksX1_doLogsMatch_3 11 rfl rfl)
theorem dX1_doLogsMatch_85 : decode cX1_doLogsMatch 85 = .ok (.getfield 189, 3) := dk_180 0 189 (dk_at dksX1_doLogsMatch_3 13 rfl rfl)
theorem dX1_doLogsMatch_88 : decode cX1_doLogsMatch 88 = .ok (.invokespecial 349, 3) := dk_183 1 93 (dk_at dksX1_doLogsMatch_3 16 rfl rfl)
theorem dX1_doLogsMatch_91 : decode cX1_doLogsMatch 91 = .ok (.astore 10, 2) := dk_58 10 (dk_at dksX1_doLogsMatch_3 19 rfl rfl)
theorem dX1_doLogsMatch_93 : decode cX1_doLogsMatch 93 = .ok (.aload_n 1, 1) := dk_43 (dk_at dksX1_doLogsMatch_3 21 rfl rfl)
theorem dX1_doLogsMatch_94 : decode cX1_doLogsMatch 94 = .ok (.aload 10, 2) := dk_25 10 (dk_at dksX1_doLogsMatch_3 22 rfl rfl)
theorem dX1_doLogsMatch_96 : decode cX1_doLogsMatch 96 = .ok (.aload 9, 2) := dk_25 9 (dk_at dksX1_doLogsMatch_4 0 rfl rfl)
theorem dX1_doLogsMatch_98 : decode cX1_doLogsMatch 98 = .ok (.invokevirtual 350, 3) := dk_182 1 94 (dk_at dksX1_doLogsMatch_4 2 rfl rfl)
theorem dX1_doLogsMatch_101 : decode cX1_doLogsMatch 101 = .ok (.checkcast 88, 3) := dk_192 0 88 (dk_at dksX1_doLogsMatch_4 5 rfl rfl)
theorem dX1_doLogsMatch_104 : decode cX1_doLogsMatch 104 = .ok (.astore 11, 2) := dk_58 11 (dk_at dksX1_doLogsMatch_4 8 rfl rfl)
theorem dX1_doLogsMatch_106 : decode cX1_doLogsMatch 106 = .ok (.aload_n 2, 1) := dk_44 (dk_at dksX1_doLogsMatch_4 10 rfl rfl)
theorem dX1_doLogsMatch_107 : decode cX1_doLogsMatch 107 = .ok (.aload 10, 2) := dk_25 10 (dk_at dksX1_doLogsMatch_4 11 rfl rfl)
theorem dX1_doLogsMatch_109 : decode cX1_doLogsMatch 109 = .ok (.aload 7, 2) := dk_25 7 (dk_at dksX1_doLogsMatch_4 13 rfl rfl)
theorem dX1_doLogsMatch_111 : decode cX1_doLogsMatch 111 = .ok (.iload 8, 2) := dk_21 8 (dk_at dksX1_doLogsMatch_4 15 rfl rfl)
theorem dX1_doLogsMatch_113 : decode cX1_doLogsMatch 113 = .ok (.iconst 1, 1) := dk_4 (dk_at dksX1_doLogsMatch_4 17 rfl rfl)
theorem dX1_doLogsMatch_114 : decode cX1_doLogsMatch 114 = .ok (.isub, 1) := dk_100 (dk_at dksX1_doLogsMatch_4 18 rfl rfl)
theorem dX1_doLogsMatch_115 : decode cX1_doLogsMatch 115 = .ok (.invokevirtual 354, 3) := dk_182 1 98 (dk_at dksX1_doLogsMatch_4 19 rfl rfl)
theorem dX1_doLogsMatch_118 : decode cX1_doLogsMatch 118 = .ok (.invokestatic 357, 3) := dk_184 1 101 (dk_at dksX1_doLogsMatch_5 0 rfl rfl)
theorem dX1_doLogsMatch_121 : decode cX1_doLogsMatch 121 = .ok (.invokevirtual 350, 3) := dk_182 1 94 (dk_at dksX1_doLogsMatch_5 3 rfl rfl)
theorem dX1_doLogsMatch_124 : decode cX1_doLogsMatch 124 = .ok (.checkcast 358, 3) := dk_192 1 102 (dk_at dksX1_doLogsMatch_5 6 rfl rfl)
theorem dX1_doLogsMatch_127 : decode cX1_doLogsMatch 127 = .ok (.astore 12, 2) := dk_58 12 (dk_at dksX1_doLogsMatch_5 9 rfl rfl)
theorem dX1_doLogsMatch_129 : decode cX1_doLogsMatch 129 = .ok (.iload_n 3, 1) := dk_29 (dk_at dksX1_doLogsMatch_5 11 rfl rfl)
theorem dX1_doLogsMatch_130 : decode cX1_doLogsMatch 130 = .ok (.ifCond .eq 44, 3) := dk_153 0 44 (dk_at dksX1_doLogsMatch_5 12 rfl rfl)
theorem dX1_doLogsMatch_133 : decode cX1_doLogsMatch 133 = .ok (.aload 11, 2) := dk_25 11 (dk_at dksX1_doLogsMatch_5 15 rfl rfl)
theorem dX1_doLogsMatch_135 : decode cX1_doLogsMatch 135 = .ok (.ifnull 13, 3) := dk_198 0 13 (dk_at dksX1_doLogsMatch_5 17 rfl rfl)
theorem dX1_doLogsMatch_138 : decode cX1_doLogsMatch 138 = .ok (.aload 11, 2) := dk_25 11 (dk_at dksX1_doLogsMatch_5 20 rfl rfl)
theorem dX1_doLogsMatch_140 : decode cX1_doLogsMatch 140 = .ok (.aload 9, 2) := dk_25 9 (dk_at dksX1_doLogsMatch_5 22 rfl rfl)
theorem dX1_doLogsMatch_142 : decode cX1_doLogsMatch 142 = .ok (.invokevirtual 90, 3) := dk_182 0 90 (dk_at dksX1_doLogsMatch_6 0 rfl rfl)
theorem dX1_doLogsMatch_145 : decode cX1_doLogsMatch 145 = .ok (.ifCond .eq 29, 3) := dk_153 0 29 (dk_at dksX1_doLogsMatch_6 3 rfl rfl)
theorem dX1_doLogsMatch_148 : decode cX1_doLogsMatch 148 = .ok (.aload 12, 2) := dk_25 12 (dk_at dksX1_doLogsMatch_6 6 rfl rfl)
theorem dX1_doLogsMatch_150 : decode cX1_doLogsMatch 150 = .ok (.ifnull 20, 3) := dk_198 0 20 (dk_at dksX1_doLogsMatch_6 8 rfl rfl)
theorem dX1_doLogsMatch_153 : decode cX1_doLogsMatch 153 = .ok (.aload 12, 2) := dk_25 12 (dk_at dksX1_doLogsMatch_6 11 rfl rfl)
theorem dX1_doLogsMatch_155 : decode cX1_doLogsMatch 155 = .ok (.invokevirtual 363, 3) := dk_182 1 107 (dk_at dksX1_doLogsMatch_6 13 rfl rfl)
theorem dX1_doLogsMatch_158 : decode cX1_doLogsMatch 158 = .ok (.aload 7, 2) := dk_25 7 (dk_at dksX1_doLogsMatch_6 16 rfl rfl)
theorem dX1_doLogsMatch_160 : decode cX1_doLogsMatch 160 = .ok (.iload 8, 2) := dk_21 8 (dk_at dksX1_doLogsMatch_6 18 rfl rfl)
theorem dX1_doLogsMatch_162 : decode cX1_doLogsMatch 162 = .ok (.iconst 1, 1) := dk_4 (dk_at dksX1_doLogsMatch_6 20 rfl rfl)
theorem dX1_doLogsMatch_163 : decode cX1_doLogsMatch 163 = .ok (.isub, 1) := dk_100 (dk_at dksX1_doLogsMatch_6 21 rfl rfl)
theorem dX1_doLogsMatch_164 : decode cX1_doLogsMatch 164 = .ok (.invokevirtual 354, 3) := dk_182 1 98 (dk_at dksX1_doLogsMatch_7 0 rfl rfl)
theorem dX1_doLogsMatch_167 : decode cX1_doLogsMatch 167 = .ok (.if_icmp .ne 7, 3) := dk_160 0 7 (dk_at dksX1_doLogsMatch_7 3 rfl rfl)
theorem dX1_doLogsMatch_170 : decode cX1_doLogsMatch 170 = .ok (.iconst 1, 1) := dk_4 (dk_at dksX1_doLogsMatch_7 6 rfl rfl)
theorem dX1_doLogsMatch_171 : decode cX1_doLogsMatch 171 = .ok (.goto 4, 3) := dk_167 0 4 (dk_at dksX1_doLogsMatch_7 7 rfl rfl)
theorem dX1_doLogsMatch_174 : decode cX1_doLogsMatch 174 = .ok (.iconst 0, 1) := dk_3 (dk_at dksX1_doLogsMatch_7 10 rfl rfl)
theorem dX1_doLogsMatch_175 : decode cX1_doLogsMatch 175 = .ok (.istore_n 3, 1) := dk_62 (dk_at dksX1_doLogsMatch_7 11 rfl rfl)
theorem dX1_doLogsMatch_176 : decode cX1_doLogsMatch 176 = .ok (.iinc 8 1, 3) := dk_132 8 1 (dk_at dksX1_doLogsMatch_7 12 rfl rfl)
theorem dX1_doLogsMatch_179 : decode cX1_doLogsMatch 179 = .ok (.goto (-121), 3) := dk_167 255 135 (dk_at dksX1_doLogsMatch_7 15 rfl rfl)
theorem dX1_doLogsMatch_182 : decode cX1_doLogsMatch 182 = .ok (.iinc 6 1, 3) := dk_132 6 1 (dk_at dksX1_doLogsMatch_7 18 rfl rfl)
theorem dX1_doLogsMatch_185 : decode cX1_doLogsMatch 185 = .ok (.goto (-153), 3) := dk_167 255 103 (dk_at dksX1_doLogsMatch_7 21 rfl rfl)
theorem dX1_doLogsMatch_188 : decode cX1_doLogsMatch 188 = .ok (.iload_n 3, 1) := dk_29 (dk_at dksX1_doLogsMatch_8 0 rfl rfl)
theorem dX1_doLogsMatch_189 : decode cX1_doLogsMatch 189 = .ok (.ireturn, 1) := dk_172 (dk_at dksX1_doLogsMatch_8 1 rfl rfl)
abbrev cX1_doAllKnowTheHistory : ByteArray := prog_1_method_61_code
def yX1_doAllKnowTheHistory : MethodName := ⟨RX1, "doAllKnowTheHistory", "()Z"⟩
def dkwX1_doAllKnowTheHistory_4 : List UInt8 := [60, 132, 6, 1, 167, 255, 194, 132, 4, 1, 167, 255, 164, 27, 172]
abbrev dktX1_doAllKnowTheHistory_4 : List UInt8 := dkwX1_doAllKnowTheHistory_4 ++ []
def dkwX1_doAllKnowTheHistory_3 : List UInt8 := [182, 0, 84, 192, 0, 88, 25, 5, 21, 6, 182, 0, 181, 182, 0, 90, 153, 0, 7, 4, 167, 0, 4, 3]
abbrev dktX1_doAllKnowTheHistory_3 : List UInt8 := dkwX1_doAllKnowTheHistory_3 ++ dktX1_doAllKnowTheHistory_4
def dkwX1_doAllKnowTheHistory_2 : List UInt8 := [27, 153, 0, 54, 21, 6, 42, 180, 0, 49, 182, 0, 76, 163, 0, 34, 42, 180, 0, 49, 21, 6, 4, 100]
abbrev dktX1_doAllKnowTheHistory_2 : List UInt8 := dkwX1_doAllKnowTheHistory_2 ++ dktX1_doAllKnowTheHistory_3
def dkwX1_doAllKnowTheHistory_1 : List UInt8 := [58, 5, 25, 5, 180, 0, 140, 180, 0, 144, 4, 96, 54, 6, 21, 6, 25, 5, 180, 0, 137, 163, 0, 58]
abbrev dktX1_doAllKnowTheHistory_1 : List UInt8 := dkwX1_doAllKnowTheHistory_1 ++ dktX1_doAllKnowTheHistory_2
def dkwX1_doAllKnowTheHistory_0 : List UInt8 := [4, 60, 42, 180, 0, 35, 77, 44, 190, 62, 3, 54, 4, 21, 4, 29, 162, 0, 92, 44, 21, 4, 50]
abbrev dktX1_doAllKnowTheHistory_0 : List UInt8 := dkwX1_doAllKnowTheHistory_0 ++ dktX1_doAllKnowTheHistory_1
theorem dksX1_doAllKnowTheHistory_0 : cX1_doAllKnowTheHistory.data.toList.drop 0 = dktX1_doAllKnowTheHistory_0 := by decide +kernel
theorem dksX1_doAllKnowTheHistory_1 : cX1_doAllKnowTheHistory.data.toList.drop 23 = dktX1_doAllKnowTheHistory_1 := dk_seg dksX1_doAllKnowTheHistory_0 23 rfl rfl
theorem dksX1_doAllKnowTheHistory_2 : cX1_doAllKnowTheHistory.data.toList.drop 47 = dktX1_doAllKnowTheHistory_2 := dk_seg dksX1_doAllKnowTheHistory_1 24 rfl rfl
theorem dksX1_doAllKnowTheHistory_3 : cX1_doAllKnowTheHistory.data.toList.drop 71 = dktX1_doAllKnowTheHistory_3 := dk_seg dksX1_doAllKnowTheHistory_2 24 rfl rfl
theorem dksX1_doAllKnowTheHistory_4 : cX1_doAllKnowTheHistory.data.toList.drop 95 = dktX1_doAllKnowTheHistory_4 := dk_seg dksX1_doAllKnowTheHistory_3 24 rfl rfl
theorem dX1_doAllKnowTheHistory_0 : decode cX1_doAllKnowTheHistory 0 = .ok (.iconst 1, 1) := dk_4 (dk_at dksX1_doAllKnowTheHistory_0 0 rfl rfl)
theorem dX1_doAllKnowTheHistory_1 : decode cX1_doAllKnowTheHistory 1 = .ok (.istore_n 1, 1) := dk_60 (dk_at dksX1_doAllKnowTheHistory_0 1 rfl rfl)
theorem dX1_doAllKnowTheHistory_2 : decode cX1_doAllKnowTheHistory 2 = .ok (.aload_n 0, 1) := dk_42 (dk_at dksX1_doAllKnowTheHistory_0 2 rfl rfl)
theorem dX1_doAllKnowTheHistory_3 : decode cX1_doAllKnowTheHistory 3 = .ok (.getfield 35, 3) := dk_180 0 35 (dk_at dksX1_doAllKnowTheHistory_0 3 rfl rfl)
theorem dX1_doAllKnowTheHistory_6 : decode cX1_doAllKnowTheHistory 6 = .ok (.astore_n 2, 1) := dk_77 (dk_at dksX1_doAllKnowTheHistory_0 6 rfl rfl)
theorem dX1_doAllKnowTheHistory_7 : decode cX1_doAllKnowTheHistory 7 = .ok (.aload_n 2, 1) := dk_44 (dk_at dksX1_doAllKnowTheHistory_0 7 rfl rfl)
theorem dX1_doAllKnowTheHistory_8 : decode cX1_doAllKnowTheHistory 8 = .ok (.arraylength, 1) := dk_190 (dk_at dksX1_doAllKnowTheHistory_0 8 rfl rfl)
theorem dX1_doAllKnowTheHistory_9 : decode cX1_doAllKnowTheHistory 9 = .ok (.istore_n 3, 1) := dk_62 (dk_at dksX1_doAllKnowTheHistory_0 9 rfl rfl)
theorem dX1_doAllKnowTheHistory_10 : decode cX1_doAllKnowTheHistory 10 = .ok (.iconst 0, 1) := dk_3 (dk_at dksX1_doAllKnowTheHistory_0 10 rfl rfl)
theorem dX1_doAllKnowTheHistory_11 : decode cX1_doAllKnowTheHistory 11 = .ok (.istore 4, 2) := dk_54 4 (dk_at dksX1_doAllKnowTheHistory_0 11 rfl rfl)
theorem dX1_doAllKnowTheHistory_13 : decode cX1_doAllKnowTheHistory 13 = .ok (.iload 4, 2) := dk_21 4 (dk_at dksX1_doAllKnowTheHistory_0 13 rfl rfl)
theorem dX1_doAllKnowTheHistory_15 : decode cX1_doAllKnowTheHistory 15 = .ok (.iload_n 3, 1) := dk_29 (dk_at dksX1_doAllKnowTheHistory_0 15 rfl rfl)
theorem dX1_doAllKnowTheHistory_16 : decode cX1_doAllKnowTheHistory 16 = .ok (.if_icmp .ge 92, 3) := dk_162 0 92 (dk_at dksX1_doAllKnowTheHistory_0 16 rfl rfl)
theorem dX1_doAllKnowTheHistory_19 : decode cX1_doAllKnowTheHistory 19 = .ok (.aload_n 2, 1) := dk_44 (dk_at dksX1_doAllKnowTheHistory_0 19 rfl rfl)
theorem dX1_doAllKnowTheHistory_20 : decode cX1_doAllKnowTheHistory 20 = .ok (.iload 4, 2) := dk_21 4 (dk_at dksX1_doAllKnowTheHistory_0 20 rfl rfl)
theorem dX1_doAllKnowTheHistory_22 : decode cX1_doAllKnowTheHistory 22 = .ok (.aaload, 1) := dk_50 (dk_at dksX1_doAllKnowTheHistory_0 22 rfl rfl)
theorem dX1_doAllKnowTheHistory_23 : decode cX1_doAllKnowTheHistory 23 = .ok (.astore 5, 2) := dk_58 5 (dk_at dksX1_doAllKnowTheHistory_1 0 rfl rfl)
theorem dX1_doAllKnowTheHistory_25 : decode cX1_doAllKnowTheHistory 25 = .ok (.aload 5, 2) := dk_25 5 (dk_at dksX1_doAllKnowTheHistory_1 2 rfl rfl)
theorem dX1_doAllKnowTheHistory_27 : decode cX1_doAllKnowTheHistory 27 = .ok (.getfield 140, 3) := dk_180 0 140 (dk_at dksX1_doAllKnowTheHistory_1 4 rfl rfl)
theorem dX1_doAllKnowTheHistory_30 : decode cX1_doAllKnowTheHistory 30 = .ok (.getfield 144, 3) := dk_180 0 144 (dk_at dksX1_doAllKnowTheHistory_1 7 rfl rfl)
theorem dX1_doAllKnowTheHistory_33 : decode cX1_doAllKnowTheHistory 33 = .ok (.iconst 1, 1) := dk_4 (dk_at dksX1_doAllKnowTheHistory_1 10 rfl rfl)
theorem dX1_doAllKnowTheHistory_34 : decode cX1_doAllKnowTheHistory 34 = .ok (.iadd, 1) := dk_96 (dk_at dksX1_doAllKnowTheHistory_1 11 rfl rfl)
theorem dX1_doAllKnowTheHistory_35 : decode cX1_doAllKnowTheHistory 35 = .ok (.istore 6, 2) := dk_54 6 (dk_at dksX1_doAllKnowTheHistory_1 12 rfl rfl)
theorem dX1_doAllKnowTheHistory_37 : decode cX1_doAllKnowTheHistory 37 = .ok (.iload 6, 2) := dk_21 6 (dk_at dksX1_doAllKnowTheHistory_1 14 rfl rfl)
theorem dX1_doAllKnowTheHistory_39 : decode cX1_doAllKnowTheHistory 39 = .ok (.aload 5, 2) := dk_25 5 (dk_at dksX1_doAllKnowTheHistory_1 16 rfl rfl)
theorem dX1_doAllKnowTheHistory_41 : decode cX1_doAllKnowTheHistory 41 = .ok (.getfield 137, 3) := dk_180 0 137 (dk_at dksX1_doAllKnowTheHistory_1 18 rfl rfl)
theorem dX1_doAllKnowTheHistory_44 : decode cX1_doAllKnowTheHistory 44 = .ok (.if_icmp .gt 58, 3) := dk_163 0 58 (dk_at dksX1_doAllKnowTheHistory_1 21 rfl rfl)
theorem dX1_doAllKnowTheHistory_47 : decode cX1_doAllKnowTheHistory 47 = .ok (.iload_n 1, 1) := dk_27 (dk_at dksX1_doAllKnowTheHistory_2 0 rfl rfl)
theorem dX1_doAllKnowTheHistory_48 : decode cX1_doAllKnowTheHistory 48 = .ok (.ifCond .eq 54, 3) := dk_153 0 54 (dk_at dksX1_doAllKnowTheHistory_2 1 rfl rfl)
theorem dX1_doAllKnowTheHistory_51 : decode cX1_doAllKnowTheHistory 51 = .ok (.iload 6, 2) := dk_21 6 (dk_at dksX1_doAllKnowTheHistory_2 4 rfl rfl)
theorem dX1_doAllKnowTheHistory_53 : decode cX1_doAllKnowTheHistory 53 = .ok (.aload_n 0, 1) := dk_42 (dk_at dksX1_doAllKnowTheHistory_2 6 rfl rfl)
theorem dX1_doAllKnowTheHistory_54 : decode cX1_doAllKnowTheHistory 54 = .ok (.getfield 49, 3) := dk_180 0 49 (dk_at dksX1_doAllKnowTheHistory_2 7 rfl rfl)
theorem dX1_doAllKnowTheHistory_57 : decode cX1_doAllKnowTheHistory 57 = .ok (.invokevirtual 76, 3) := dk_182 0 76 (dk_at dksX1_doAllKnowTheHistory_2 10 rfl rfl)
theorem dX1_doAllKnowTheHistory_60 : decode cX1_doAllKnowTheHistory 60 = .ok (.if_icmp .gt 34, 3) := dk_163 0 34 (dk_at dksX1_doAllKnowTheHistory_2 13 rfl rfl)
theorem dX1_doAllKnowTheHistory_63 : decode cX1_doAllKnowTheHistory 63 = .ok (.aload_n 0, 1) := dk_42 (dk_at dksX1_doAllKnowTheHistory_2 16 rfl rfl)
theorem dX1_doAllKnowTheHistory_64 : decode cX1_doAllKnowTheHistory 64 = .ok (.getfield 49, 3) := dk_180 0 49 (dk_at dksX1_doAllKnowTheHistory_2 17 rfl rfl)
theorem dX1_doAllKnowTheHistory_67 : decode cX1_doAllKnowTheHistory 67 = .ok (.iload 6, 2) := dk_21 6 (dk_at dksX1_doAllKnowTheHistory_2 20 rfl rfl)
theorem dX1_doAllKnowTheHistory_69 : decode cX1_doAllKnowTheHistory 69 = .ok (.iconst 1, 1) := dk_4 (dk_at dksX1_doAllKnowTheHistory_2 22 rfl rfl)
theorem dX1_doAllKnowTheHistory_70 : decode cX1_doAllKnowTheHistory 70 = .ok (.isub, 1) := dk_100 (dk_at dksX1_doAllKnowTheHistory_2 23 rfl rfl)
theorem dX1_doAllKnowTheHistory_71 : decode cX1_doAllKnowTheHistory 71 = .ok (.invokevirtual 84, 3) := dk_182 0 84 (dk_at dksX1_doAllKnowTheHistory_3 0 rfl rfl)
theorem dX1_doAllKnowTheHistory_74 : decode cX1_doAllKnowTheHistory 74 = .ok (.checkcast 88, 3) := dk_192 0 88 (dk_at dksX1_doAllKnowTheHistory_3 3 rfl rfl)
theorem dX1_doAllKnowTheHistory_77 : decode cX1_doAllKnowTheHistory 77 = .ok (.aload 5, 2) := dk_25 5 (dk_at dksX1_doAllKnowTheHistory_3 6 rfl rfl)
theorem dX1_doAllKnowTheHistory_79 : decode cX1_doAllKnowTheHistory 79 = .ok (.iload 6, 2) := dk_21 6 (dk_at dksX1_doAllKnowTheHistory_3 8 rfl rfl)
theorem dX1_doAllKnowTheHistory_81 : decode cX1_doAllKnowTheHistory 81 = .ok (.invokevirtual 181, 3) := dk_182 0 181 (dk_at dksX1_doAllKnowTheHistory_3 10 rfl rfl)
theorem dX1_doAllKnowTheHistory_84 : decode cX1_doAllKnowTheHistory 84 = .ok (.invokevirtual 90, 3) := dk_182 0 90 (dk_at dksX1_doAllKnowTheHistory_3 13 rfl rfl)
theorem dX1_doAllKnowTheHistory_87 : decode cX1_doAllKnowTheHistory 87 = .ok (.ifCond .eq 7, 3) := dk_153 0 7 (dk_at dksX1_doAllKnowTheHistory_3 16 rfl rfl)
theorem dX1_doAllKnowTheHistory_90 : decode cX1_doAllKnowTheHistory 90 = .ok (.iconst 1, 1) := dk_4 (dk_at dksX1_doAllKnowTheHistory_3 19 rfl rfl)
theorem dX1_doAllKnowTheHistory_91 : decode cX1_doAllKnowTheHistory 91 = .ok (.goto 4, 3) := dk_167 0 4 (dk_at dksX1_doAllKnowTheHistory_3 20 rfl rfl)
theorem dX1_doAllKnowTheHistory_94 : decode cX1_doAllKnowTheHistory 94 = .ok (.iconst 0, 1) := dk_3 (dk_at dksX1_doAllKnowTheHistory_3 23 rfl rfl)
theorem dX1_doAllKnowTheHistory_95 : decode cX1_doAllKnowTheHistory 95 = .ok (.istore_n 1, 1) := dk_60 (dk_at dksX1_doAllKnowTheHistory_4 0 rfl rfl)
theorem dX1_doAllKnowTheHistory_96 : decode cX1_doAllKnowTheHistory 96 = .ok (.iinc 6 1, 3) := dk_132 6 1 (dk_at dksX1_doAllKnowTheHistory_4 1 rfl rfl)
theorem dX1_doAllKnowTheHistory_99 : decode cX1_doAllKnowTheHistory 99 = .ok (.goto (-62), 3) := dk_167 255 194 (dk_at dksX1_doAllKnowTheHistory_4 4 rfl rfl)
theorem dX1_doAllKnowTheHistory_102 : decode cX1_doAllKnowTheHistory 102 = .ok (.iinc 4 1, 3) := dk_132 4 1 (dk_at dksX1_doAllKnowTheHistory_4 7 rfl rfl)
theorem dX1_doAllKnowTheHistory_105 : decode cX1_doAllKnowTheHistory 105 = .ok (.goto (-92), 3) := dk_167 255 164 (dk_at dksX1_doAllKnowTheHistory_4 10 rfl rfl)
theorem dX1_doAllKnowTheHistory_108 : decode cX1_doAllKnowTheHistory 108 = .ok (.iload_n 1, 1) := dk_27 (dk_at dksX1_doAllKnowTheHistory_4 13 rfl rfl)
theorem dX1_doAllKnowTheHistory_109 : decode cX1_doAllKnowTheHistory 109 = .ok (.ireturn, 1) := dk_172 (dk_at dksX1_doAllKnowTheHistory_4 14 rfl rfl)
abbrev cX1_tick : ByteArray := prog_1_method_13_code
def yX1_tick : MethodName := ⟨RX1, "tick", "(I)I"⟩
def dkwX1_tick_3 : List UInt8 := [44, 182, 0, 125, 172]
abbrev dktX1_tick_3 : List UInt8 := dkwX1_tick_3 ++ []
def dkwX1_tick_2 : List UInt8 := [25, 6, 180, 0, 122, 100, 5, 163, 0, 7, 4, 167, 0, 4, 3, 184, 0, 116, 132, 5, 1, 167, 255, 208]
abbrev dktX1_tick_2 : List UInt8 := dkwX1_tick_2 ++ dktX1_tick_3
def dkwX1_tick_1 : List UInt8 := [162, 0, 47, 45, 21, 5, 50, 58, 6, 25, 6, 180, 0, 113, 153, 0, 19, 44, 180, 0, 122, 4, 96]
abbrev dktX1_tick_1 : List UInt8 := dkwX1_tick_1 ++ dktX1_tick_2
def dkwX1_tick_0 : List UInt8 := [42, 27, 182, 0, 119, 77, 42, 180, 0, 35, 78, 45, 190, 54, 4, 3, 54, 5, 21, 5, 21, 4]
abbrev dktX1_tick_0 : List UInt8 := dkwX1_tick_0 ++ dktX1_tick_1
theorem dksX1_tick_0 : cX1_tick.data.toList.drop 0 = dktX1_tick_0 := by decide +kernel
theorem dksX1_tick_1 : cX1_tick.data.toList.drop 22 = dktX1_tick_1 := dk_seg dksX1_tick_0 22 rfl rfl
theorem dksX1_tick_2 : cX1_tick.data.toList.drop 45 = dktX1_tick_2 := dk_seg dksX1_tick_1 23 rfl rfl
theorem dksX1_tick_3 : cX1_tick.data.toList.drop 69 = dktX1_tick_3 := dk_seg dksX1_tick_2 24 rfl rfl
theorem dX1_tick_0 : decode cX1_tick 0 = .ok (.aload_n 0, 1) := dk_42 (dk_at dksX1_tick_0 0 rfl rfl)
theorem dX1_tick_1 : decode cX1_tick 1 = .ok (.iload_n 1, 1) := dk_27 (dk_at dksX1_tick_0 1 rfl rfl)
theorem dX1_tick_2 : decode cX1_tick 2 = .ok (.invokevirtual 119, 3) := dk_182 0 119 (dk_at dksX1_tick_0 2 rfl rfl)
theorem dX1_tick_5 : decode cX1_tick 5 = .ok (.astore_n 2, 1) := dk_77 (dk_at dksX1_tick_0 5 rfl rfl)
theorem dX1_tick_6 : decode cX1_tick 6 = .ok (.aload_n 0, 1) := dk_42 (dk_at dksX1_tick_0 6 rfl rfl)
theorem dX1_tick_7 : decode cX1_tick 7 = .ok (.getfield 35, 3) := dk_180 0 35 (dk_at dksX1_tick_0 7 rfl rfl)
theorem dX1_tick_10 : decode cX1_tick 10 = .ok (.astore_n 3, 1) := dk_78 (dk_at dksX1_tick_0 10 rfl rfl)
theorem dX1_tick_11 : decode cX1_tick 11 = .ok (.aload_n 3, 1) := dk_45 (dk_at dksX1_tick_0 11 rfl rfl)
theorem dX1_tick_12 : decode cX1_tick 12 = .ok (.arraylength, 1) := dk_190 (dk_at dksX1_tick_0 12 rfl rfl)
theorem dX1_tick_13 : decode cX1_tick 13 = .ok (.istore 4, 2) := dk_54 4 (dk_at dksX1_tick_0 13 rfl rfl)
theorem dX1_tick_15 : decode cX1_tick 15 = .ok (.iconst 0, 1) := dk_3 (dk_at dksX1_tick_0 15 rfl rfl)
theorem dX1_tick_16 : decode cX1_tick 16 = .ok (.istore 5, 2) := dk_54 5 (dk_at dksX1_tick_0 16 rfl rfl)
theorem dX1_tick_18 : decode cX1_tick 18 = .ok (.iload 5, 2) := dk_21 5 (dk_at dksX1_tick_0 18 rfl rfl)
theorem dX1_tick_20 : decode cX1_tick 20 = .ok (.iload 4, 2) := dk_21 4 (dk_at dksX1_tick_0 20 rfl rfl)
theorem dX1_tick_22 : decode cX1_tick 22 = .ok (.if_icmp .ge 47, 3) := dk_162 0 47 (dk_at dksX1_tick_1 0 rfl rfl)
theorem dX1_tick_25 : decode cX1_tick 25 = .ok (.aload_n 3, 1) := dk_45 (dk_at dksX1_tick_1 3 rfl rfl)
theorem dX1_tick_26 : decode cX1_tick 26 = .ok (.iload 5, 2) := dk_21 5 (dk_at dksX1_tick_1 4 rfl rfl)
theorem dX1_tick_28 : decode cX1_tick 28 = .ok (.aaload, 1) := dk_50 (dk_at dksX1_tick_1 6 rfl rfl)
theorem dX1_tick_29 : decode cX1_tick 29 = .ok (.astore 6, 2) := dk_58 6 (dk_at dksX1_tick_1 7 rfl rfl)
theorem dX1_tick_31 : decode cX1_tick 31 = .ok (.aload 6, 2) := dk_25 6 (dk_at dksX1_tick_1 9 rfl rfl)
theorem dX1_tick_33 : decode cX1_tick 33 = .ok (.getfield 113, 3) := dk_180 0 113 (dk_at dksX1_tick_1 11 rfl rfl)
theorem dX1_tick_36 : decode cX1_tick 36 = .ok (.ifCond .eq 19, 3) := dk_153 0 19 (dk_at dksX1_tick_1 14 rfl rfl)
theorem dX1_tick_39 : decode cX1_tick 39 = .ok (.aload_n 2, 1) := dk_44 (dk_at dksX1_tick_1 17 rfl rfl)
theorem dX1_tick_40 : decode cX1_tick 40 = .ok (.getfield 122, 3) := dk_180 0 122 (dk_at dksX1_tick_1 18 rfl rfl)
theorem dX1_tick_43 : decode cX1_tick 43 = .ok (.iconst 1, 1) := dk_4 (dk_at dksX1_tick_1 21 rfl rfl)
theorem dX1_tick_44 : decode cX1_tick 44 = .ok (.iadd, 1) := dk_96 (dk_at dksX1_tick_1 22 rfl rfl)
theorem dX1_tick_45 : decode cX1_tick 45 = .ok (.aload 6, 2) := dk_25 6 (dk_at dksX1_tick_2 0 rfl rfl)
theorem dX1_tick_47 : decode cX1_tick 47 = .ok (.getfield 122, 3) := dk_180 0 122 (dk_at dksX1_tick_2 2 rfl rfl)
theorem dX1_tick_50 : decode cX1_tick 50 = .ok (.isub, 1) := dk_100 (dk_at dksX1_tick_2 5 rfl rfl)
theorem dX1_tick_51 : decode cX1_tick 51 = .ok (.iconst 2, 1) := dk_5 (dk_at dksX1_tick_2 6 rfl rfl)
theorem dX1_tick_52 : decode cX1_tick 52 = .ok (.if_icmp .gt 7, 3) := dk_163 0 7 (dk_at dksX1_tick_2 7 rfl rfl)
theorem dX1_tick_55 : decode cX1_tick 55 = .ok (.iconst 1, 1) := dk_4 (dk_at dksX1_tick_2 10 rfl rfl)
theorem dX1_tick_56 : decode cX1_tick 56 = .ok (.goto 4, 3) := dk_167 0 4 (dk_at dksX1_tick_2 11 rfl rfl)
theorem dX1_tick_59 : decode cX1_tick 59 = .ok (.iconst 0, 1) := dk_3 (dk_at dksX1_tick_2 14 rfl rfl)
theorem dX1_tick_60 : decode cX1_tick 60 = .ok (.invokestatic 116, 3) := dk_184 0 116 (dk_at dksX1_tick_2 15 rfl rfl)
theorem dX1_tick_63 : decode cX1_tick 63 = .ok (.iinc 5 1, 3) := dk_132 5 1 (dk_at dksX1_tick_2 18 rfl rfl)
theorem dX1_tick_66 : decode cX1_tick 66 = .ok (.goto (-48), 3) := dk_167 255 208 (dk_at dksX1_tick_2 21 rfl rfl)
theorem dX1_tick_69 : decode cX1_tick 69 = .ok (.aload_n 2, 1) := dk_44 (dk_at dksX1_tick_3 0 rfl rfl)
theorem dX1_tick_70 : decode cX1_tick 70 = .ok (.invokevirtual 125, 3) := dk_182 0 125 (dk_at dksX1_tick_3 1 rfl rfl)
theorem dX1_tick_73 : decode cX1_tick 73 = .ok (.ireturn, 1) := dk_172 (dk_at dksX1_tick_3 4 rfl rfl)
abbrev cX1_running : ByteArray := prog_1_method_12_code
def yX1_running : MethodName := ⟨RX1, "running", "(I)LQuorumAlmanac$Node;"⟩
def dkwX1_running_0 : List UInt8 := [42, 27, 182, 0, 109, 77, 44, 180, 0, 113, 184, 0, 116, 44, 176]
abbrev dktX1_running_0 : List UInt8 := dkwX1_running_0 ++ []
theorem dksX1_running_0 : cX1_running.data.toList.drop 0 = dktX1_running_0 := by decide +kernel
theorem dX1_running_0 : decode cX1_running 0 = .ok (.aload_n 0, 1) := dk_42 (dk_at dksX1_running_0 0 rfl rfl)
theorem dX1_running_1 : decode cX1_running 1 = .ok (.iload_n 1, 1) := dk_27 (dk_at dksX1_running_0 1 rfl rfl)
theorem dX1_running_2 : decode cX1_running 2 = .ok (.invokevirtual 109, 3) := dk_182 0 109 (dk_at dksX1_running_0 2 rfl rfl)
theorem dX1_running_5 : decode cX1_running 5 = .ok (.astore_n 2, 1) := dk_77 (dk_at dksX1_running_0 5 rfl rfl)
theorem dX1_running_6 : decode cX1_running 6 = .ok (.aload_n 2, 1) := dk_44 (dk_at dksX1_running_0 6 rfl rfl)
theorem dX1_running_7 : decode cX1_running 7 = .ok (.getfield 113, 3) := dk_180 0 113 (dk_at dksX1_running_0 7 rfl rfl)
theorem dX1_running_10 : decode cX1_running 10 = .ok (.invokestatic 116, 3) := dk_184 0 116 (dk_at dksX1_running_0 10 rfl rfl)
theorem dX1_running_13 : decode cX1_running 13 = .ok (.aload_n 2, 1) := dk_44 (dk_at dksX1_running_0 13 rfl rfl)
theorem dX1_running_14 : decode cX1_running 14 = .ok (.areturn, 1) := dk_176 (dk_at dksX1_running_0 14 rfl rfl)
abbrev cX1_node : ByteArray := prog_1_method_11_code
def yX1_node : MethodName := ⟨RX1, "node", "(I)LQuorumAlmanac$Node;"⟩
def dkwX1_node_0 : List UInt8 := [27, 3, 7, 184, 0, 101, 184, 0, 105, 42, 180, 0, 35, 27, 50, 176]
abbrev dktX1_node_0 : List UInt8 := dkwX1_node_0 ++ []
theorem dksX1_node_0 : cX1_node.data.toList.drop 0 = dktX1_node_0 := by decide +kernel
theorem dX1_node_0 : decode cX1_node 0 = .ok (.iload_n 1, 1) := dk_27 (dk_at dksX1_node_0 0 rfl rfl)
theorem dX1_node_1 : decode cX1_node 1 = .ok (.iconst 0, 1) := dk_3 (dk_at dksX1_node_0 1 rfl rfl)
theorem dX1_node_2 : decode cX1_node 2 = .ok (.iconst 4, 1) := dk_7 (dk_at dksX1_node_0 2 rfl rfl)
theorem dX1_node_3 : decode cX1_node 3 = .ok (.invokestatic 101, 3) := dk_184 0 101 (dk_at dksX1_node_0 3 rfl rfl)
theorem dX1_node_6 : decode cX1_node 6 = .ok (.invokestatic 105, 3) := dk_184 0 105 (dk_at dksX1_node_0 6 rfl rfl)
theorem dX1_node_9 : decode cX1_node 9 = .ok (.aload_n 0, 1) := dk_42 (dk_at dksX1_node_0 9 rfl rfl)
theorem dX1_node_10 : decode cX1_node 10 = .ok (.getfield 35, 3) := dk_180 0 35 (dk_at dksX1_node_0 10 rfl rfl)
theorem dX1_node_13 : decode cX1_node 13 = .ok (.iload_n 1, 1) := dk_27 (dk_at dksX1_node_0 13 rfl rfl)
theorem dX1_node_14 : decode cX1_node 14 = .ok (.aaload, 1) := dk_50 (dk_at dksX1_node_0 14 rfl rfl)
theorem dX1_node_15 : decode cX1_node 15 = .ok (.areturn, 1) := dk_176 (dk_at dksX1_node_0 15 rfl rfl)
abbrev cX1_isBetween : ByteArray := prog_1_method_1_code
def yX1_isBetween : MethodName := ⟨RX1, "isBetween", "(III)Z"⟩
def dkwX1_isBetween_0 : List UInt8 := [26, 27, 161, 0, 12, 26, 28, 163, 0, 7, 4, 167, 0, 4, 3, 172]
abbrev dktX1_isBetween_0 : List UInt8 := dkwX1_isBetween_0 ++ []
theorem dksX1_isBetween_0 : cX1_isBetween.data.toList.drop 0 = dktX1_isBetween_0 := by decide +kernel
theorem dX1_isBetween_0 : decode cX1_isBetween 0 = .ok (.iload_n 0, 1) := dk_26 (dk_at dksX1_isBetween_0 0 rfl rfl)
theorem dX1_isBetween_1 : decode cX1_isBetween 1 = .ok (.iload_n 1, 1) := dk_27 (dk_at dksX1_isBetween_0 1 rfl rfl)
theorem dX1_isBetween_2 : decode cX1_isBetween 2 = .ok (.if_icmp .lt 12, 3) := dk_161 0 12 (dk_at dksX1_isBetween_0 2 rfl rfl)
theorem dX1_isBetween_5 : decode cX1_isBetween 5 = .ok (.iload_n 0, 1) := dk_26 (dk_at dksX1_isBetween_0 5 rfl rfl)
theorem dX1_isBetween_6 : decode cX1_isBetween 6 = .ok (.iload_n 2, 1) := dk_28 (dk_at dksX1_isBetween_0 6 rfl rfl)
theorem dX1_isBetween_7 : decode cX1_isBetween 7 = .ok (.if_icmp .gt 7, 3) := dk_163 0 7 (dk_at dksX1_isBetween_0 7 rfl rfl)
theorem dX1_isBetween_10 : decode cX1_isBetween 10 = .ok (.iconst 1, 1) := dk_4 (dk_at dksX1_isBetween_0 10 rfl rfl)
theorem dX1_isBetween_11 : decode cX1_isBetween 11 = .ok (.goto 4, 3) := dk_167 0 4 (dk_at dksX1_isBetween_0 11 rfl rfl)
theorem dX1_isBetween_14 : decode cX1_isBetween 14 = .ok (.iconst 0, 1) := dk_3 (dk_at dksX1_isBetween_0 14 rfl rfl)
theorem dX1_isBetween_15 : decode cX1_isBetween 15 = .ok (.ireturn, 1) := dk_172 (dk_at dksX1_isBetween_0 15 rfl rfl)
abbrev cX1_requireIndex : ByteArray := prog_1_method_2_code
def yX1_requireIndex : MethodName := ⟨RX1, "requireIndex", "(Z)V"⟩
def dkwX1_requireIndex_0 : List UInt8 := [26, 154, 0, 11, 187, 0, 1, 89, 183, 0, 3, 191, 177]
abbrev dktX1_requireIndex_0 : List UInt8 := dkwX1_requireIndex_0 ++ []
theorem dksX1_requireIndex_0 : cX1_requireIndex.data.toList.drop 0 = dktX1_requireIndex_0 := by decide +kernel
theorem dX1_requireIndex_0 : decode cX1_requireIndex 0 = .ok (.iload_n 0, 1) := dk_26 (dk_at dksX1_requireIndex_0 0 rfl rfl)
theorem dX1_requireIndex_1 : decode cX1_requireIndex 1 = .ok (.ifCond .ne 11, 3) := dk_154 0 11 (dk_at dksX1_requireIndex_0 1 rfl rfl)
theorem dX1_requireIndex_4 : decode cX1_requireIndex 4 = .ok (.new 1, 3) := dk_187 0 1 (dk_at dksX1_requireIndex_0 4 rfl rfl)
theorem dX1_requireIndex_7 : decode cX1_requireIndex 7 = .ok (.dup, 1) := dk_89 (dk_at dksX1_requireIndex_0 7 rfl rfl)
theorem dX1_requireIndex_8 : decode cX1_requireIndex 8 = .ok (.invokespecial 3, 3) := dk_183 0 3 (dk_at dksX1_requireIndex_0 8 rfl rfl)
theorem dX1_requireIndex_11 : decode cX1_requireIndex 11 = .ok (.athrow, 1) := dk_191 (dk_at dksX1_requireIndex_0 11 rfl rfl)
theorem dX1_requireIndex_12 : decode cX1_requireIndex 12 = .ok (.return_, 1) := dk_177 (dk_at dksX1_requireIndex_0 12 rfl rfl)
abbrev cX1_requireState : ByteArray := prog_1_method_4_code
def yX1_requireState : MethodName := ⟨RX1, "requireState", "(Z)V"⟩
def dkwX1_requireState_0 : List UInt8 := [26, 154, 0, 11, 187, 0, 10, 89, 183, 0, 12, 191, 177]
abbrev dktX1_requireState_0 : List UInt8 := dkwX1_requireState_0 ++ []
theorem dksX1_requireState_0 : cX1_requireState.data.toList.drop 0 = dktX1_requireState_0 := by decide +kernel
theorem dX1_requireState_0 : decode cX1_requireState 0 = .ok (.iload_n 0, 1) := dk_26 (dk_at dksX1_requireState_0 0 rfl rfl)
theorem dX1_requireState_1 : decode cX1_requireState 1 = .ok (.ifCond .ne 11, 3) := dk_154 0 11 (dk_at dksX1_requireState_0 1 rfl rfl)
theorem dX1_requireState_4 : decode cX1_requireState 4 = .ok (.new 10, 3) := dk_187 0 10 (dk_at dksX1_requireState_0 4 rfl rfl)
theorem dX1_requireState_7 : decode cX1_requireState 7 = .ok (.dup, 1) := dk_89 (dk_at dksX1_requireState_0 7 rfl rfl)
theorem dX1_requireState_8 : decode cX1_requireState 8 = .ok (.invokespecial 12, 3) := dk_183 0 12 (dk_at dksX1_requireState_0 8 rfl rfl)
theorem dX1_requireState_11 : decode cX1_requireState 11 = .ok (.athrow, 1) := dk_191 (dk_at dksX1_requireState_0 11 rfl rfl)
theorem dX1_requireState_12 : decode cX1_requireState 12 = .ok (.return_, 1) := dk_177 (dk_at dksX1_requireState_0 12 rfl rfl)
abbrev cX1_isIn : ByteArray := prog_1_method_6_code
def yX1_isIn : MethodName := ⟨RX1, "isIn", "(II)Z"⟩
def dkwX1_isIn_0 : List UInt8 := [26, 27, 122, 4, 126, 4, 160, 0, 7, 4, 167, 0, 4, 3, 172]
abbrev dktX1_isIn_0 : List UInt8 := dkwX1_isIn_0 ++ []
theorem dksX1_isIn_0 : cX1_isIn.data.toList.drop 0 = dktX1_isIn_0 := by decide +kernel
theorem dX1_isIn_0 : decode cX1_isIn 0 = .ok (.iload_n 0, 1) := dk_26 (dk_at dksX1_isIn_0 0 rfl rfl)
theorem dX1_isIn_1 : decode cX1_isIn 1 = .ok (.iload_n 1, 1) := dk_27 (dk_at dksX1_isIn_0 1 rfl rfl)
theorem dX1_isIn_2 : decode cX1_isIn 2 = .ok (.ishr, 1) := dk_122 (dk_at dksX1_isIn_0 2 rfl rfl)
theorem dX1_isIn_3 : decode cX1_isIn 3 = .ok (.iconst 1, 1) := dk_4 (dk_at dksX1_isIn_0 3 rfl rfl)
theorem dX1_isIn_4 : decode cX1_isIn 4 = .ok (.iand, 1) := dk_126 (dk_at dksX1_isIn_0 4 rfl rfl)
theorem dX1_isIn_5 : decode cX1_isIn 5 = .ok (.iconst 1, 1) := dk_4 (dk_at dksX1_isIn_0 5 rfl rfl)
theorem dX1_isIn_6 : decode cX1_isIn 6 = .ok (.if_icmp .ne 7, 3) := dk_160 0 7 (dk_at dksX1_isIn_0 6 rfl rfl)
theorem dX1_isIn_9 : decode cX1_isIn 9 = .ok (.iconst 1, 1) := dk_4 (dk_at dksX1_isIn_0 9 rfl rfl)
theorem dX1_isIn_10 : decode cX1_isIn 10 = .ok (.goto 4, 3) := dk_167 0 4 (dk_at dksX1_isIn_0 10 rfl rfl)
theorem dX1_isIn_13 : decode cX1_isIn 13 = .ok (.iconst 0, 1) := dk_3 (dk_at dksX1_isIn_0 13 rfl rfl)
theorem dX1_isIn_14 : decode cX1_isIn 14 = .ok (.ireturn, 1) := dk_172 (dk_at dksX1_isIn_0 14 rfl rfl)
abbrev cX1_nextMessage : ByteArray := prog_1_method_9_code
def yX1_nextMessage : MethodName := ⟨RX1, "nextMessage", "()I"⟩
def dkwX1_nextMessage_0 : List UInt8 := [42, 180, 0, 94, 60, 42, 89, 180, 0, 94, 4, 96, 181, 0, 94, 27, 172]
abbrev dktX1_nextMessage_0 : List UInt8 := dkwX1_nextMessage_0 ++ []
theorem dksX1_nextMessage_0 : cX1_nextMessage.data.toList.drop 0 = dktX1_nextMessage_0 := by decide +kernel
theorem dX1_nextMessage_0 : decode cX1_nextMessage 0 = .ok (.aload_n 0, 1) := dk_42 (dk_at dksX1_nextMessage_0 0 rfl rfl)
theorem dX1_nextMessage_1 : decode cX1_nextMessage 1 = .ok (.getfield 94, 3) := dk_180 0 94 (dk_at dksX1_nextMessage_0 1 rfl rfl)
theorem dX1_nextMessage_4 : decode cX1_nextMessage 4 = .ok (.istore_n 1, 1) := dk_60 (dk_at dksX1_nextMessage_0 4 rfl rfl)
theorem dX1_nextMessage_5 : decode cX1_nextMessage 5 = .ok (.aload_n 0, 1) := dk_42 (dk_at dksX1_nextMessage_0 5 rfl rfl)
theorem dX1_nextMessage_6 : decode cX1_nextMessage 6 = .ok (.dup, 1) := dk_89 (dk_at dksX1_nextMessage_0 6 rfl rfl)
theorem dX1_nextMessage_7 : decode cX1_nextMessage 7 = .ok (.getfield 94, 3) := dk_180 0 94 (dk_at dksX1_nextMessage_0 7 rfl rfl)
theorem dX1_nextMessage_10 : decode cX1_nextMessage 10 = .ok (.iconst 1, 1) := dk_4 (dk_at dksX1_nextMessage_0 10 rfl rfl)
theorem dX1_nextMessage_11 : decode cX1_nextMessage 11 = .ok (.iadd, 1) := dk_96 (dk_at dksX1_nextMessage_0 11 rfl rfl)
theorem dX1_nextMessage_12 : decode cX1_nextMessage 12 = .ok (.putfield 94, 3) := dk_181 0 94 (dk_at dksX1_nextMessage_0 12 rfl rfl)
theorem dX1_nextMessage_15 : decode cX1_nextMessage 15 = .ok (.iload_n 1, 1) := dk_27 (dk_at dksX1_nextMessage_0 15 rfl rfl)
theorem dX1_nextMessage_16 : decode cX1_nextMessage 16 = .ok (.ireturn, 1) := dk_172 (dk_at dksX1_nextMessage_0 16 rfl rfl)
abbrev cX1_send : ByteArray := prog_1_method_10_code
def yX1_send : MethodName := ⟨RX1, "send", "(LQuorumAlmanac$Message;)V"⟩
def dkwX1_send_1 : List UInt8 := [180, 0, 42, 3, 182, 0, 98, 87, 177]
abbrev dktX1_send_1 : List UInt8 := dkwX1_send_1 ++ []
def dkwX1_send_0 : List UInt8 := [42, 180, 0, 42, 43, 182, 0, 80, 87, 42, 180, 0, 42, 182, 0, 76, 16, 60, 164, 0, 12, 42]
abbrev dktX1_send_0 : List UInt8 := dkwX1_send_0 ++ dktX1_send_1
theorem dksX1_send_0 : cX1_send.data.toList.drop 0 = dktX1_send_0 := by decide +kernel
theorem dksX1_send_1 : cX1_send.data.toList.drop 22 = dktX1_send_1 := dk_seg dksX1_send_0 22 rfl rfl
theorem dX1_send_0 : decode cX1_send 0 = .ok (.aload_n 0, 1) := dk_42 (dk_at dksX1_send_0 0 rfl rfl)
theorem dX1_send_1 : decode cX1_send 1 = .ok (.getfield 42, 3) := dk_180 0 42 (dk_at dksX1_send_0 1 rfl rfl)
theorem dX1_send_4 : decode cX1_send 4 = .ok (.aload_n 1, 1) := dk_43 (dk_at dksX1_send_0 4 rfl rfl)
theorem dX1_send_5 : decode cX1_send 5 = .ok (.invokevirtual 80, 3) := dk_182 0 80 (dk_at dksX1_send_0 5 rfl rfl)
theorem dX1_send_8 : decode cX1_send 8 = .ok (.pop, 1) := dk_87 (dk_at dksX1_send_0 8 rfl rfl)
theorem dX1_send_9 : decode cX1_send 9 = .ok (.aload_n 0, 1) := dk_42 (dk_at dksX1_send_0 9 rfl rfl)
theorem dX1_send_10 : decode cX1_send 10 = .ok (.getfield 42, 3) := dk_180 0 42 (dk_at dksX1_send_0 10 rfl rfl)
theorem dX1_send_13 : decode cX1_send 13 = .ok (.invokevirtual 76, 3) := dk_182 0 76 (dk_at dksX1_send_0 13 rfl rfl)
theorem dX1_send_16 : decode cX1_send 16 = .ok (.bipush 60, 2) := dk_16 60 (dk_at dksX1_send_0 16 rfl rfl)
theorem dX1_send_18 : decode cX1_send 18 = .ok (.if_icmp .le 12, 3) := dk_164 0 12 (dk_at dksX1_send_0 18 rfl rfl)
theorem dX1_send_21 : decode cX1_send 21 = .ok (.aload_n 0, 1) := dk_42 (dk_at dksX1_send_0 21 rfl rfl)
theorem dX1_send_22 : decode cX1_send 22 = .ok (.getfield 42, 3) := dk_180 0 42 (dk_at dksX1_send_1 0 rfl rfl)
theorem dX1_send_25 : decode cX1_send 25 = .ok (.iconst 0, 1) := dk_3 (dk_at dksX1_send_1 3 rfl rfl)
theorem dX1_send_26 : decode cX1_send 26 = .ok (.invokevirtual 98, 3) := dk_182 0 98 (dk_at dksX1_send_1 4 rfl rfl)
theorem dX1_send_29 : decode cX1_send 29 = .ok (.pop, 1) := dk_87 (dk_at dksX1_send_1 7 rfl rfl)
theorem dX1_send_30 : decode cX1_send 30 = .ok (.return_, 1) := dk_177 (dk_at dksX1_send_1 8 rfl rfl)
abbrev cX1_sync : ByteArray := prog_1_method_14_code
def yX1_sync : MethodName := ⟨RX1, "sync", "(I)I"⟩
def dkwX1_sync_0 : List UInt8 := [42, 27, 182, 0, 119, 182, 0, 128, 172]
abbrev dktX1_sync_0 : List UInt8 := dkwX1_sync_0 ++ []
theorem dksX1_sync_0 : cX1_sync.data.toList.drop 0 = dktX1_sync_0 := by decide +kernel
theorem dX1_sync_0 : decode cX1_sync 0 = .ok (.aload_n 0, 1) := dk_42 (dk_at dksX1_sync_0 0 rfl rfl)
theorem dX1_sync_1 : decode cX1_sync 1 = .ok (.iload_n 1, 1) := dk_27 (dk_at dksX1_sync_0 1 rfl rfl)
theorem dX1_sync_2 : decode cX1_sync 2 = .ok (.invokevirtual 119, 3) := dk_182 0 119 (dk_at dksX1_sync_0 2 rfl rfl)
theorem dX1_sync_5 : decode cX1_sync 5 = .ok (.invokevirtual 128, 3) := dk_182 0 128 (dk_at dksX1_sync_0 5 rfl rfl)
theorem dX1_sync_8 : decode cX1_sync 8 = .ok (.ireturn, 1) := dk_172 (dk_at dksX1_sync_0 8 rfl rfl)
abbrev cX1_note : ByteArray := prog_1_method_8_code
def yX1_note : MethodName := ⟨RX1, "note", "(ILQuorumAlmanac$Entry;)V"⟩
def dkwX1_note_2 : List UInt8 := [153, 0, 7, 4, 167, 0, 4, 3, 181, 0, 52, 177]
abbrev dktX1_note_2 : List UInt8 := dkwX1_note_2 ++ []
def dkwX1_note_1 : List UInt8 := [42, 180, 0, 52, 153, 0, 27, 42, 180, 0, 49, 27, 4, 100, 182, 0, 84, 192, 0, 88, 44, 182, 0, 90]
abbrev dktX1_note_1 : List UInt8 := dkwX1_note_1 ++ dktX1_note_2
def dkwX1_note_0 : List UInt8 := [27, 42, 180, 0, 49, 182, 0, 76, 164, 0, 15, 42, 180, 0, 49, 44, 182, 0, 80, 87, 167, 0, 39, 42]
abbrev dktX1_note_0 : List UInt8 := dkwX1_note_0 ++ dktX1_note_1
theorem dksX1_note_0 : cX1_note.data.toList.drop 0 = dktX1_note_0 := by decide +kernel
theorem dksX1_note_1 : cX1_note.data.toList.drop 24 = dktX1_note_1 := dk_seg dksX1_note_0 24 rfl rfl
theorem dksX1_note_2 : cX1_note.data.toList.drop 48 = dktX1_note_2 := dk_seg dksX1_note_1 24 rfl rfl
theorem dX1_note_0 : decode cX1_note 0 = .ok (.iload_n 1, 1) := dk_27 (dk_at dksX1_note_0 0 rfl rfl)
theorem dX1_note_1 : decode cX1_note 1 = .ok (.aload_n 0, 1) := dk_42 (dk_at dksX1_note_0 1 rfl rfl)
theorem dX1_note_2 : decode cX1_note 2 = .ok (.getfield 49, 3) := dk_180 0 49 (dk_at dksX1_note_0 2 rfl rfl)
theorem dX1_note_5 : decode cX1_note 5 = .ok (.invokevirtual 76, 3) := dk_182 0 76 (dk_at dksX1_note_0 5 rfl rfl)
theorem dX1_note_8 : decode cX1_note 8 = .ok (.if_icmp .le 15, 3) := dk_164 0 15 (dk_at dksX1_note_0 8 rfl rfl)
theorem dX1_note_11 : decode cX1_note 11 = .ok (.aload_n 0, 1) := dk_42 (dk_at dksX1_note_0 11 rfl rfl)
theorem dX1_note_12 : decode cX1_note 12 = .ok (.getfield 49, 3) := dk_180 0 49 (dk_at dksX1_note_0 12 rfl rfl)
theorem dX1_note_15 : decode cX1_note 15 = .ok (.aload_n 2, 1) := dk_44 (dk_at dksX1_note_0 15 rfl rfl)
theorem dX1_note_16 : decode cX1_note 16 = .ok (.invokevirtual 80, 3) := dk_182 0 80 (dk_at dksX1_note_0 16 rfl rfl)
theorem dX1_note_19 : decode cX1_note 19 = .ok (.pop, 1) := dk_87 (dk_at dksX1_note_0 19 rfl rfl)
theorem dX1_note_20 : decode cX1_note 20 = .ok (.goto 39, 3) := dk_167 0 39 (dk_at dksX1_note_0 20 rfl rfl)
theorem dX1_note_23 : decode cX1_note 23 = .ok (.aload_n 0, 1) := dk_42 (dk_at dksX1_note_0 23 rfl rfl)
theorem dX1_note_24 : decode cX1_note 24 = .ok (.aload_n 0, 1) := dk_42 (dk_at dksX1_note_1 0 rfl rfl)
theorem dX1_note_25 : decode cX1_note 25 = .ok (.getfield 52, 3) := dk_180 0 52 (dk_at dksX1_note_1 1 rfl rfl)
theorem dX1_note_28 : decode cX1_note 28 = .ok (.ifCond .eq 27, 3) := dk_153 0 27 (dk_at dksX1_note_1 4 rfl rfl)
theorem dX1_note_31 : decode cX1_note 31 = .ok (.aload_n 0, 1) := dk_42 (dk_at dksX1_note_1 7 rfl rfl)
theorem dX1_note_32 : decode cX1_note 32 = .ok (.getfield 49, 3) := dk_180 0 49 (dk_at dksX1_note_1 8 rfl rfl)
theorem dX1_note_35 : decode cX1_note 35 = .ok (.iload_n 1, 1) := dk_27 (dk_at dksX1_note_1 11 rfl rfl)
theorem dX1_note_36 : decode cX1_note 36 = .ok (.iconst 1, 1) := dk_4 (dk_at dksX1_note_1 12 rfl rfl)
theorem dX1_note_37 : decode cX1_note 37 = .ok (.isub, 1) := dk_100 (dk_at dksX1_note_1 13 rfl rfl)
theorem dX1_note_38 : decode cX1_note 38 = .ok (.invokevirtual 84, 3) := dk_182 0 84 (dk_at dksX1_note_1 14 rfl rfl)
theorem dX1_note_41 : decode cX1_note 41 = .ok (.checkcast 88, 3) := dk_192 0 88 (dk_at dksX1_note_1 17 rfl rfl)
theorem dX1_note_44 : decode cX1_note 44 = .ok (.aload_n 2, 1) := dk_44 (dk_at dksX1_note_1 20 rfl rfl)
theorem dX1_note_45 : decode cX1_note 45 = .ok (.invokevirtual 90, 3) := dk_182 0 90 (dk_at dksX1_note_1 21 rfl rfl)
theorem dX1_note_48 : decode cX1_note 48 = .ok (.ifCond .eq 7, 3) := dk_153 0 7 (dk_at dksX1_note_2 0 rfl rfl)
theorem dX1_note_51 : decode cX1_note 51 = .ok (.iconst 1, 1) := dk_4 (dk_at dksX1_note_2 3 rfl rfl)
theorem dX1_note_52 : decode cX1_note 52 = .ok (.goto 4, 3) := dk_167 0 4 (dk_at dksX1_note_2 4 rfl rfl)
theorem dX1_note_55 : decode cX1_note 55 = .ok (.iconst 0, 1) := dk_3 (dk_at dksX1_note_2 7 rfl rfl)
theorem dX1_note_56 : decode cX1_note 56 = .ok (.putfield 52, 3) := dk_181 0 52 (dk_at dksX1_note_2 8 rfl rfl)
theorem dX1_note_59 : decode cX1_note 59 = .ok (.return_, 1) := dk_177 (dk_at dksX1_note_2 11 rfl rfl)
abbrev cX1_crash : ByteArray := prog_1_method_15_code
def yX1_crash : MethodName := ⟨RX1, "crash", "(I)I"⟩
def dkwX1_crash_0 : List UInt8 := [42, 27, 182, 0, 119, 182, 0, 131, 172]
abbrev dktX1_crash_0 : List UInt8 := dkwX1_crash_0 ++ []
theorem dksX1_crash_0 : cX1_crash.data.toList.drop 0 = dktX1_crash_0 := by decide +kernel
theorem dX1_crash_0 : decode cX1_crash 0 = .ok (.aload_n 0, 1) := dk_42 (dk_at dksX1_crash_0 0 rfl rfl)
theorem dX1_crash_1 : decode cX1_crash 1 = .ok (.iload_n 1, 1) := dk_27 (dk_at dksX1_crash_0 1 rfl rfl)
theorem dX1_crash_2 : decode cX1_crash 2 = .ok (.invokevirtual 119, 3) := dk_182 0 119 (dk_at dksX1_crash_0 2 rfl rfl)
theorem dX1_crash_5 : decode cX1_crash 5 = .ok (.invokevirtual 131, 3) := dk_182 0 131 (dk_at dksX1_crash_0 5 rfl rfl)
theorem dX1_crash_8 : decode cX1_crash 8 = .ok (.ireturn, 1) := dk_172 (dk_at dksX1_crash_0 8 rfl rfl)
abbrev cX1_start : ByteArray := prog_1_method_16_code
def yX1_start : MethodName := ⟨RX1, "start", "(I)I"⟩
def dkwX1_start_1 : List UInt8 := [182, 0, 134, 172]
abbrev dktX1_start_1 : List UInt8 := dkwX1_start_1 ++ []
def dkwX1_start_0 : List UInt8 := [42, 27, 182, 0, 109, 77, 44, 180, 0, 113, 154, 0, 7, 4, 167, 0, 4, 3, 184, 0, 116, 44]
abbrev dktX1_start_0 : List UInt8 := dkwX1_start_0 ++ dktX1_start_1
theorem dksX1_start_0 : cX1_start.data.toList.drop 0 = dktX1_start_0 := by decide +kernel
theorem dksX1_start_1 : cX1_start.data.toList.drop 22 = dktX1_start_1 := dk_seg dksX1_start_0 22 rfl rfl
theorem dX1_start_0 : decode cX1_start 0 = .ok (.aload_n 0, 1) := dk_42 (dk_at dksX1_start_0 0 rfl rfl)
theorem dX1_start_1 : decode cX1_start 1 = .ok (.iload_n 1, 1) := dk_27 (dk_at dksX1_start_0 1 rfl rfl)
theorem dX1_start_2 : decode cX1_start 2 = .ok (.invokevirtual 109, 3) := dk_182 0 109 (dk_at dksX1_start_0 2 rfl rfl)
theorem dX1_start_5 : decode cX1_start 5 = .ok (.astore_n 2, 1) := dk_77 (dk_at dksX1_start_0 5 rfl rfl)
theorem dX1_start_6 : decode cX1_start 6 = .ok (.aload_n 2, 1) := dk_44 (dk_at dksX1_start_0 6 rfl rfl)
theorem dX1_start_7 : decode cX1_start 7 = .ok (.getfield 113, 3) := dk_180 0 113 (dk_at dksX1_start_0 7 rfl rfl)
theorem dX1_start_10 : decode cX1_start 10 = .ok (.ifCond .ne 7, 3) := dk_154 0 7 (dk_at dksX1_start_0 10 rfl rfl)
theorem dX1_start_13 : decode cX1_start 13 = .ok (.iconst 1, 1) := dk_4 (dk_at dksX1_start_0 13 rfl rfl)
theorem dX1_start_14 : decode cX1_start 14 = .ok (.goto 4, 3) := dk_167 0 4 (dk_at dksX1_start_0 14 rfl rfl)
theorem dX1_start_17 : decode cX1_start 17 = .ok (.iconst 0, 1) := dk_3 (dk_at dksX1_start_0 17 rfl rfl)
theorem dX1_start_18 : decode cX1_start 18 = .ok (.invokestatic 116, 3) := dk_184 0 116 (dk_at dksX1_start_0 18 rfl rfl)
theorem dX1_start_21 : decode cX1_start 21 = .ok (.aload_n 2, 1) := dk_44 (dk_at dksX1_start_0 21 rfl rfl)
theorem dX1_start_22 : decode cX1_start 22 = .ok (.invokevirtual 134, 3) := dk_182 0 134 (dk_at dksX1_start_1 0 rfl rfl)
theorem dX1_start_25 : decode cX1_start 25 = .ok (.ireturn, 1) := dk_172 (dk_at dksX1_start_1 3 rfl rfl)
abbrev cX1_compact : ByteArray := prog_1_method_17_code
def yX1_compact : MethodName := ⟨RX1, "compact", "(I)I"⟩
def dkwX1_compact_1 : List UInt8 := [3, 184, 0, 116, 44, 182, 0, 149, 172]
abbrev dktX1_compact_1 : List UInt8 := dkwX1_compact_1 ++ []
def dkwX1_compact_0 : List UInt8 := [42, 27, 182, 0, 119, 77, 44, 180, 0, 137, 44, 180, 0, 140, 180, 0, 144, 164, 0, 7, 4, 167, 0, 4]
abbrev dktX1_compact_0 : List UInt8 := dkwX1_compact_0 ++ dktX1_compact_1
theorem dksX1_compact_0 : cX1_compact.data.toList.drop 0 = dktX1_compact_0 := by decide +kernel
theorem dksX1_compact_1 : cX1_compact.data.toList.drop 24 = dktX1_compact_1 := dk_seg dksX1_compact_0 24 rfl rfl
theorem dX1_compact_0 : decode cX1_compact 0 = .ok (.aload_n 0, 1) := dk_42 (dk_at dksX1_compact_0 0 rfl rfl)
theorem dX1_compact_1 : decode cX1_compact 1 = .ok (.iload_n 1, 1) := dk_27 (dk_at dksX1_compact_0 1 rfl rfl)
theorem dX1_compact_2 : decode cX1_compact 2 = .ok (.invokevirtual 119, 3) := dk_182 0 119 (dk_at dksX1_compact_0 2 rfl rfl)
theorem dX1_compact_5 : decode cX1_compact 5 = .ok (.astore_n 2, 1) := dk_77 (dk_at dksX1_compact_0 5 rfl rfl)
theorem dX1_compact_6 : decode cX1_compact 6 = .ok (.aload_n 2, 1) := dk_44 (dk_at dksX1_compact_0 6 rfl rfl)
theorem dX1_compact_7 : decode cX1_compact 7 = .ok (.getfield 137, 3) := dk_180 0 137 (dk_at dksX1_compact_0 7 rfl rfl)
theorem dX1_compact_10 : decode cX1_compact 10 = .ok (.aload_n 2, 1) := dk_44 (dk_at dksX1_compact_0 10 rfl rfl)
theorem dX1_compact_11 : decode cX1_compact 11 = .ok (.getfield 140, 3) := dk_180 0 140 (dk_at dksX1_compact_0 11 rfl rfl)
theorem dX1_compact_14 : decode cX1_compact 14 = .ok (.getfield 144, 3) := dk_180 0 144 (dk_at dksX1_compact_0 14 rfl rfl)
theorem dX1_compact_17 : decode cX1_compact 17 = .ok (.if_icmp .le 7, 3) := dk_164 0 7 (dk_at dksX1_compact_0 17 rfl rfl)
theorem dX1_compact_20 : decode cX1_compact 20 = .ok (.iconst 1, 1) := dk_4 (dk_at dksX1_compact_0 20 rfl rfl)
theorem dX1_compact_21 : decode cX1_compact 21 = .ok (.goto 4, 3) := dk_167 0 4 (dk_at dksX1_compact_0 21 rfl rfl)
theorem dX1_compact_24 : decode cX1_compact 24 = .ok (.iconst 0, 1) := dk_3 (dk_at dksX1_compact_1 0 rfl rfl)
theorem dX1_compact_25 : decode cX1_compact 25 = .ok (.invokestatic 116, 3) := dk_184 0 116 (dk_at dksX1_compact_1 1 rfl rfl)
theorem dX1_compact_28 : decode cX1_compact 28 = .ok (.aload_n 2, 1) := dk_44 (dk_at dksX1_compact_1 4 rfl rfl)
theorem dX1_compact_29 : decode cX1_compact 29 = .ok (.invokevirtual 149, 3) := dk_182 0 149 (dk_at dksX1_compact_1 5 rfl rfl)
theorem dX1_compact_32 : decode cX1_compact 32 = .ok (.ireturn, 1) := dk_172 (dk_at dksX1_compact_1 8 rfl rfl)
abbrev cX1_role : ByteArray := prog_1_method_18_code
def yX1_role : MethodName := ⟨RX1, "role", "(I)C"⟩
def dkwX1_role_0 : List UInt8 := [42, 27, 182, 0, 109, 77, 44, 180, 0, 113, 153, 0, 10, 44, 180, 0, 152, 167, 0, 5, 16, 100, 172]
abbrev dktX1_role_0 : List UInt8 := dkwX1_role_0 ++ []
theorem dksX1_role_0 : cX1_role.data.toList.drop 0 = dktX1_role_0 := by decide +kernel
theorem dX1_role_0 : decode cX1_role 0 = .ok (.aload_n 0, 1) := dk_42 (dk_at dksX1_role_0 0 rfl rfl)
theorem dX1_role_1 : decode cX1_role 1 = .ok (.iload_n 1, 1) := dk_27 (dk_at dksX1_role_0 1 rfl rfl)
theorem dX1_role_2 : decode cX1_role 2 = .ok (.invokevirtual 109, 3) := dk_182 0 109 (dk_at dksX1_role_0 2 rfl rfl)
theorem dX1_role_5 : decode cX1_role 5 = .ok (.astore_n 2, 1) := dk_77 (dk_at dksX1_role_0 5 rfl rfl)
theorem dX1_role_6 : decode cX1_role 6 = .ok (.aload_n 2, 1) := dk_44 (dk_at dksX1_role_0 6 rfl rfl)
theorem dX1_role_7 : decode cX1_role 7 = .ok (.getfield 113, 3) := dk_180 0 113 (dk_at dksX1_role_0 7 rfl rfl)
theorem dX1_role_10 : decode cX1_role 10 = .ok (.ifCond .eq 10, 3) := dk_153 0 10 (dk_at dksX1_role_0 10 rfl rfl)
theorem dX1_role_13 : decode cX1_role 13 = .ok (.aload_n 2, 1) := dk_44 (dk_at dksX1_role_0 13 rfl rfl)
theorem dX1_role_14 : decode cX1_role 14 = .ok (.getfield 152, 3) := dk_180 0 152 (dk_at dksX1_role_0 14 rfl rfl)
theorem dX1_role_17 : decode cX1_role 17 = .ok (.goto 5, 3) := dk_167 0 5 (dk_at dksX1_role_0 17 rfl rfl)
theorem dX1_role_20 : decode cX1_role 20 = .ok (.bipush 100, 2) := dk_16 100 (dk_at dksX1_role_0 20 rfl rfl)
theorem dX1_role_22 : decode cX1_role 22 = .ok (.ireturn, 1) := dk_172 (dk_at dksX1_role_0 22 rfl rfl)
abbrev cX1_term : ByteArray := prog_1_method_19_code
def yX1_term : MethodName := ⟨RX1, "term", "(I)I"⟩
def dkwX1_term_0 : List UInt8 := [42, 180, 0, 30, 42, 27, 182, 0, 109, 185, 0, 156, 2, 0, 172]
abbrev dktX1_term_0 : List UInt8 := dkwX1_term_0 ++ []
theorem dksX1_term_0 : cX1_term.data.toList.drop 0 = dktX1_term_0 := by decide +kernel
theorem dX1_term_0 : decode cX1_term 0 = .ok (.aload_n 0, 1) := dk_42 (dk_at dksX1_term_0 0 rfl rfl)
theorem dX1_term_1 : decode cX1_term 1 = .ok (.getfield 30, 3) := dk_180 0 30 (dk_at dksX1_term_0 1 rfl rfl)
theorem dX1_term_4 : decode cX1_term 4 = .ok (.aload_n 0, 1) := dk_42 (dk_at dksX1_term_0 4 rfl rfl)
theorem dX1_term_5 : decode cX1_term 5 = .ok (.iload_n 1, 1) := dk_27 (dk_at dksX1_term_0 5 rfl rfl)
theorem dX1_term_6 : decode cX1_term 6 = .ok (.invokevirtual 109, 3) := dk_182 0 109 (dk_at dksX1_term_0 6 rfl rfl)
theorem dX1_term_9 : decode cX1_term 9 = .ok (.invokeinterface 156 2, 5) := by decide +kernel
theorem dX1_term_14 : decode cX1_term 14 = .ok (.ireturn, 1) := dk_172 (dk_at dksX1_term_0 14 rfl rfl)
abbrev cX1_vote : ByteArray := prog_1_method_20_code
def yX1_vote : MethodName := ⟨RX1, "vote", "(I)I"⟩
def dkwX1_vote_1 : List UInt8 := [180, 0, 161, 172]
abbrev dktX1_vote_1 : List UInt8 := dkwX1_vote_1 ++ []
def dkwX1_vote_0 : List UInt8 := [42, 27, 182, 0, 109, 77, 44, 180, 0, 161, 2, 159, 0, 7, 4, 167, 0, 4, 3, 184, 0, 164, 44]
abbrev dktX1_vote_0 : List UInt8 := dkwX1_vote_0 ++ dktX1_vote_1
theorem dksX1_vote_0 : cX1_vote.data.toList.drop 0 = dktX1_vote_0 := by decide +kernel
theorem dksX1_vote_1 : cX1_vote.data.toList.drop 23 = dktX1_vote_1 := dk_seg dksX1_vote_0 23 rfl rfl
theorem dX1_vote_0 : decode cX1_vote 0 = .ok (.aload_n 0, 1) := dk_42 (dk_at dksX1_vote_0 0 rfl rfl)
theorem dX1_vote_1 : decode cX1_vote 1 = .ok (.iload_n 1, 1) := dk_27 (dk_at dksX1_vote_0 1 rfl rfl)
theorem dX1_vote_2 : decode cX1_vote 2 = .ok (.invokevirtual 109, 3) := dk_182 0 109 (dk_at dksX1_vote_0 2 rfl rfl)
theorem dX1_vote_5 : decode cX1_vote 5 = .ok (.astore_n 2, 1) := dk_77 (dk_at dksX1_vote_0 5 rfl rfl)
theorem dX1_vote_6 : decode cX1_vote 6 = .ok (.aload_n 2, 1) := dk_44 (dk_at dksX1_vote_0 6 rfl rfl)
theorem dX1_vote_7 : decode cX1_vote 7 = .ok (.getfield 161, 3) := dk_180 0 161 (dk_at dksX1_vote_0 7 rfl rfl)
theorem dX1_vote_10 : decode cX1_vote 10 = .ok (.iconst (-1), 1) := dk_2 (dk_at dksX1_vote_0 10 rfl rfl)
theorem dX1_vote_11 : decode cX1_vote 11 = .ok (.if_icmp .eq 7, 3) := dk_159 0 7 (dk_at dksX1_vote_0 11 rfl rfl)
theorem dX1_vote_14 : decode cX1_vote 14 = .ok (.iconst 1, 1) := dk_4 (dk_at dksX1_vote_0 14 rfl rfl)
theorem dX1_vote_15 : decode cX1_vote 15 = .ok (.goto 4, 3) := dk_167 0 4 (dk_at dksX1_vote_0 15 rfl rfl)
theorem dX1_vote_18 : decode cX1_vote 18 = .ok (.iconst 0, 1) := dk_3 (dk_at dksX1_vote_0 18 rfl rfl)
theorem dX1_vote_19 : decode cX1_vote 19 = .ok (.invokestatic 164, 3) := dk_184 0 164 (dk_at dksX1_vote_0 19 rfl rfl)
theorem dX1_vote_22 : decode cX1_vote 22 = .ok (.aload_n 2, 1) := dk_44 (dk_at dksX1_vote_0 22 rfl rfl)
theorem dX1_vote_23 : decode cX1_vote 23 = .ok (.getfield 161, 3) := dk_180 0 161 (dk_at dksX1_vote_1 0 rfl rfl)
theorem dX1_vote_26 : decode cX1_vote 26 = .ok (.ireturn, 1) := dk_172 (dk_at dksX1_vote_1 3 rfl rfl)
abbrev cX1_requireElement : ByteArray := prog_1_method_5_code
def yX1_requireElement : MethodName := ⟨RX1, "requireElement", "(Z)V"⟩
def dkwX1_requireElement_0 : List UInt8 := [26, 154, 0, 11, 187, 0, 13, 89, 183, 0, 15, 191, 177]
abbrev dktX1_requireElement_0 : List UInt8 := dkwX1_requireElement_0 ++ []
theorem dksX1_requireElement_0 : cX1_requireElement.data.toList.drop 0 = dktX1_requireElement_0 := by decide +kernel
theorem dX1_requireElement_0 : decode cX1_requireElement 0 = .ok (.iload_n 0, 1) := dk_26 (dk_at dksX1_requireElement_0 0 rfl rfl)
theorem dX1_requireElement_1 : decode cX1_requireElement 1 = .ok (.ifCond .ne 11, 3) := dk_154 0 11 (dk_at dksX1_requireElement_0 1 rfl rfl)
theorem dX1_requireElement_4 : decode cX1_requireElement 4 = .ok (.new 13, 3) := dk_187 0 13 (dk_at dksX1_requireElement_0 4 rfl rfl)
theorem dX1_requireElement_7 : decode cX1_requireElement 7 = .ok (.dup, 1) := dk_89 (dk_at dksX1_requireElement_0 7 rfl rfl)
theorem dX1_requireElement_8 : decode cX1_requireElement 8 = .ok (.invokespecial 15, 3) := dk_183 0 15 (dk_at dksX1_requireElement_0 8 rfl rfl)
theorem dX1_requireElement_11 : decode cX1_requireElement 11 = .ok (.athrow, 1) := dk_191 (dk_at dksX1_requireElement_0 11 rfl rfl)
theorem dX1_requireElement_12 : decode cX1_requireElement 12 = .ok (.return_, 1) := dk_177 (dk_at dksX1_requireElement_0 12 rfl rfl)
abbrev cX1_clock : ByteArray := prog_1_method_21_code
def yX1_clock : MethodName := ⟨RX1, "clock", "(I)I"⟩
def dkwX1_clock_0 : List UInt8 := [42, 27, 182, 0, 109, 180, 0, 122, 172]
abbrev dktX1_clock_0 : List UInt8 := dkwX1_clock_0 ++ []
theorem dksX1_clock_0 : cX1_clock.data.toList.drop 0 = dktX1_clock_0 := by decide +kernel
theorem dX1_clock_0 : decode cX1_clock 0 = .ok (.aload_n 0, 1) := dk_42 (dk_at dksX1_clock_0 0 rfl rfl)
theorem dX1_clock_1 : decode cX1_clock 1 = .ok (.iload_n 1, 1) := dk_27 (dk_at dksX1_clock_0 1 rfl rfl)
theorem dX1_clock_2 : decode cX1_clock 2 = .ok (.invokevirtual 109, 3) := dk_182 0 109 (dk_at dksX1_clock_0 2 rfl rfl)
theorem dX1_clock_5 : decode cX1_clock 5 = .ok (.getfield 122, 3) := dk_180 0 122 (dk_at dksX1_clock_0 5 rfl rfl)
theorem dX1_clock_8 : decode cX1_clock 8 = .ok (.ireturn, 1) := dk_172 (dk_at dksX1_clock_0 8 rfl rfl)
abbrev cX1_last : ByteArray := prog_1_method_22_code
def yX1_last : MethodName := ⟨RX1, "last", "(I)I"⟩
def dkwX1_last_0 : List UInt8 := [42, 180, 0, 23, 42, 27, 182, 0, 109, 185, 0, 156, 2, 0, 172]
abbrev dktX1_last_0 : List UInt8 := dkwX1_last_0 ++ []
theorem dksX1_last_0 : cX1_last.data.toList.drop 0 = dktX1_last_0 := by decide +kernel
theorem dX1_last_0 : decode cX1_last 0 = .ok (.aload_n 0, 1) := dk_42 (dk_at dksX1_last_0 0 rfl rfl)
theorem dX1_last_1 : decode cX1_last 1 = .ok (.getfield 23, 3) := dk_180 0 23 (dk_at dksX1_last_0 1 rfl rfl)
theorem dX1_last_4 : decode cX1_last 4 = .ok (.aload_n 0, 1) := dk_42 (dk_at dksX1_last_0 4 rfl rfl)
theorem dX1_last_5 : decode cX1_last 5 = .ok (.iload_n 1, 1) := dk_27 (dk_at dksX1_last_0 5 rfl rfl)
theorem dX1_last_6 : decode cX1_last 6 = .ok (.invokevirtual 109, 3) := dk_182 0 109 (dk_at dksX1_last_0 6 rfl rfl)
theorem dX1_last_9 : decode cX1_last 9 = .ok (.invokeinterface 156 2, 5) := by decide +kernel
theorem dX1_last_14 : decode cX1_last 14 = .ok (.ireturn, 1) := dk_172 (dk_at dksX1_last_0 14 rfl rfl)
abbrev cX1_synced : ByteArray := prog_1_method_23_code
def yX1_synced : MethodName := ⟨RX1, "synced", "(I)I"⟩
def dkwX1_synced_0 : List UInt8 := [42, 27, 182, 0, 109, 180, 0, 167, 172]
abbrev dktX1_synced_0 : List UInt8 := dkwX1_synced_0 ++ []
theorem dksX1_synced_0 : cX1_synced.data.toList.drop 0 = dktX1_synced_0 := by decide +kernel
theorem dX1_synced_0 : decode cX1_synced 0 = .ok (.aload_n 0, 1) := dk_42 (dk_at dksX1_synced_0 0 rfl rfl)
theorem dX1_synced_1 : decode cX1_synced 1 = .ok (.iload_n 1, 1) := dk_27 (dk_at dksX1_synced_0 1 rfl rfl)
theorem dX1_synced_2 : decode cX1_synced 2 = .ok (.invokevirtual 109, 3) := dk_182 0 109 (dk_at dksX1_synced_0 2 rfl rfl)
theorem dX1_synced_5 : decode cX1_synced 5 = .ok (.getfield 167, 3) := dk_180 0 167 (dk_at dksX1_synced_0 5 rfl rfl)
theorem dX1_synced_8 : decode cX1_synced 8 = .ok (.ireturn, 1) := dk_172 (dk_at dksX1_synced_0 8 rfl rfl)
abbrev cX1_committed : ByteArray := prog_1_method_24_code
def yX1_committed : MethodName := ⟨RX1, "committed", "(I)I"⟩
def dkwX1_committed_0 : List UInt8 := [42, 27, 182, 0, 109, 180, 0, 137, 172]
abbrev dktX1_committed_0 : List UInt8 := dkwX1_committed_0 ++ []
theorem dksX1_committed_0 : cX1_committed.data.toList.drop 0 = dktX1_committed_0 := by decide +kernel
theorem dX1_committed_0 : decode cX1_committed 0 = .ok (.aload_n 0, 1) := dk_42 (dk_at dksX1_committed_0 0 rfl rfl)
theorem dX1_committed_1 : decode cX1_committed 1 = .ok (.iload_n 1, 1) := dk_27 (dk_at dksX1_committed_0 1 rfl rfl)
theorem dX1_committed_2 : decode cX1_committed 2 = .ok (.invokevirtual 109, 3) := dk_182 0 109 (dk_at dksX1_committed_0 2 rfl rfl)
theorem dX1_committed_5 : decode cX1_committed 5 = .ok (.getfield 137, 3) := dk_180 0 137 (dk_at dksX1_committed_0 5 rfl rfl)
theorem dX1_committed_8 : decode cX1_committed 8 = .ok (.ireturn, 1) := dk_172 (dk_at dksX1_committed_0 8 rfl rfl)
abbrev cX1_snapshot : ByteArray := prog_1_method_25_code
def yX1_snapshot : MethodName := ⟨RX1, "snapshot", "(I)I"⟩
def dkwX1_snapshot_0 : List UInt8 := [42, 27, 182, 0, 109, 180, 0, 140, 180, 0, 144, 172]
abbrev dktX1_snapshot_0 : List UInt8 := dkwX1_snapshot_0 ++ []
theorem dksX1_snapshot_0 : cX1_snapshot.data.toList.drop 0 = dktX1_snapshot_0 := by decide +kernel
theorem dX1_snapshot_0 : decode cX1_snapshot 0 = .ok (.aload_n 0, 1) := dk_42 (dk_at dksX1_snapshot_0 0 rfl rfl)
theorem dX1_snapshot_1 : decode cX1_snapshot 1 = .ok (.iload_n 1, 1) := dk_27 (dk_at dksX1_snapshot_0 1 rfl rfl)
theorem dX1_snapshot_2 : decode cX1_snapshot 2 = .ok (.invokevirtual 109, 3) := dk_182 0 109 (dk_at dksX1_snapshot_0 2 rfl rfl)
theorem dX1_snapshot_5 : decode cX1_snapshot 5 = .ok (.getfield 140, 3) := dk_180 0 140 (dk_at dksX1_snapshot_0 5 rfl rfl)
theorem dX1_snapshot_8 : decode cX1_snapshot 8 = .ok (.getfield 144, 3) := dk_180 0 144 (dk_at dksX1_snapshot_0 8 rfl rfl)
theorem dX1_snapshot_11 : decode cX1_snapshot 11 = .ok (.ireturn, 1) := dk_172 (dk_at dksX1_snapshot_0 11 rfl rfl)
abbrev cX1_members : ByteArray := prog_1_method_26_code
def yX1_members : MethodName := ⟨RX1, "members", "(I)I"⟩
def dkwX1_members_0 : List UInt8 := [42, 27, 182, 0, 109, 182, 0, 170, 182, 0, 174, 172]
abbrev dktX1_members_0 : List UInt8 := dkwX1_members_0 ++ []
theorem dksX1_members_0 : cX1_members.data.toList.drop 0 = dktX1_members_0 := by decide +kernel
theorem dX1_members_0 : decode cX1_members 0 = .ok (.aload_n 0, 1) := dk_42 (dk_at dksX1_members_0 0 rfl rfl)
theorem dX1_members_1 : decode cX1_members 1 = .ok (.iload_n 1, 1) := dk_27 (dk_at dksX1_members_0 1 rfl rfl)
theorem dX1_members_2 : decode cX1_members 2 = .ok (.invokevirtual 109, 3) := dk_182 0 109 (dk_at dksX1_members_0 2 rfl rfl)
theorem dX1_members_5 : decode cX1_members 5 = .ok (.invokevirtual 170, 3) := dk_182 0 170 (dk_at dksX1_members_0 5 rfl rfl)
theorem dX1_members_8 : decode cX1_members 8 = .ok (.invokevirtual 174, 3) := dk_182 0 174 (dk_at dksX1_members_0 8 rfl rfl)
theorem dX1_members_11 : decode cX1_members 11 = .ok (.ireturn, 1) := dk_172 (dk_at dksX1_members_0 11 rfl rfl)
abbrev cX1_entryTerm : ByteArray := prog_1_method_28_code
def yX1_entryTerm : MethodName := ⟨RX1, "entryTerm", "(II)I"⟩
def dkwX1_entryTerm_0 : List UInt8 := [42, 27, 28, 182, 0, 185, 180, 0, 189, 172]
abbrev dktX1_entryTerm_0 : List UInt8 := dkwX1_entryTerm_0 ++ []
theorem dksX1_entryTerm_0 : cX1_entryTerm.data.toList.drop 0 = dktX1_entryTerm_0 := by decide +kernel
theorem dX1_entryTerm_0 : decode cX1_entryTerm 0 = .ok (.aload_n 0, 1) := dk_42 (dk_at dksX1_entryTerm_0 0 rfl rfl)
theorem dX1_entryTerm_1 : decode cX1_entryTerm 1 = .ok (.iload_n 1, 1) := dk_27 (dk_at dksX1_entryTerm_0 1 rfl rfl)
theorem dX1_entryTerm_2 : decode cX1_entryTerm 2 = .ok (.iload_n 2, 1) := dk_28 (dk_at dksX1_entryTerm_0 2 rfl rfl)
theorem dX1_entryTerm_3 : decode cX1_entryTerm 3 = .ok (.invokevirtual 185, 3) := dk_182 0 185 (dk_at dksX1_entryTerm_0 3 rfl rfl)
theorem dX1_entryTerm_6 : decode cX1_entryTerm 6 = .ok (.getfield 189, 3) := dk_180 0 189 (dk_at dksX1_entryTerm_0 6 rfl rfl)
theorem dX1_entryTerm_9 : decode cX1_entryTerm 9 = .ok (.ireturn, 1) := dk_172 (dk_at dksX1_entryTerm_0 9 rfl rfl)
abbrev cX1_entryOf : ByteArray := prog_1_method_27_code
def yX1_entryOf : MethodName := ⟨RX1, "entryOf", "(II)LQuorumAlmanac$Entry;"⟩
def dkwX1_entryOf_0 : List UInt8 := [42, 27, 182, 0, 109, 78, 45, 28, 182, 0, 177, 184, 0, 164, 45, 28, 182, 0, 181, 176]
abbrev dktX1_entryOf_0 : List UInt8 := dkwX1_entryOf_0 ++ []
theorem dksX1_entryOf_0 : cX1_entryOf.data.toList.drop 0 = dktX1_entryOf_0 := by decide +kernel
theorem dX1_entryOf_0 : decode cX1_entryOf 0 = .ok (.aload_n 0, 1) := dk_42 (dk_at dksX1_entryOf_0 0 rfl rfl)
theorem dX1_entryOf_1 : decode cX1_entryOf 1 = .ok (.iload_n 1, 1) := dk_27 (dk_at dksX1_entryOf_0 1 rfl rfl)
theorem dX1_entryOf_2 : decode cX1_entryOf 2 = .ok (.invokevirtual 109, 3) := dk_182 0 109 (dk_at dksX1_entryOf_0 2 rfl rfl)
theorem dX1_entryOf_5 : decode cX1_entryOf 5 = .ok (.astore_n 3, 1) := dk_78 (dk_at dksX1_entryOf_0 5 rfl rfl)
theorem dX1_entryOf_6 : decode cX1_entryOf 6 = .ok (.aload_n 3, 1) := dk_45 (dk_at dksX1_entryOf_0 6 rfl rfl)
theorem dX1_entryOf_7 : decode cX1_entryOf 7 = .ok (.iload_n 2, 1) := dk_28 (dk_at dksX1_entryOf_0 7 rfl rfl)
theorem dX1_entryOf_8 : decode cX1_entryOf 8 = .ok (.invokevirtual 177, 3) := dk_182 0 177 (dk_at dksX1_entryOf_0 8 rfl rfl)
theorem dX1_entryOf_11 : decode cX1_entryOf 11 = .ok (.invokestatic 164, 3) := dk_184 0 164 (dk_at dksX1_entryOf_0 11 rfl rfl)
theorem dX1_entryOf_14 : decode cX1_entryOf 14 = .ok (.aload_n 3, 1) := dk_45 (dk_at dksX1_entryOf_0 14 rfl rfl)
theorem dX1_entryOf_15 : decode cX1_entryOf 15 = .ok (.iload_n 2, 1) := dk_28 (dk_at dksX1_entryOf_0 15 rfl rfl)
theorem dX1_entryOf_16 : decode cX1_entryOf 16 = .ok (.invokevirtual 181, 3) := dk_182 0 181 (dk_at dksX1_entryOf_0 16 rfl rfl)
theorem dX1_entryOf_19 : decode cX1_entryOf 19 = .ok (.areturn, 1) := dk_176 (dk_at dksX1_entryOf_0 19 rfl rfl)
abbrev cX1_entryKind : ByteArray := prog_1_method_29_code
def yX1_entryKind : MethodName := ⟨RX1, "entryKind", "(II)C"⟩
def dkwX1_entryKind_0 : List UInt8 := [42, 27, 28, 182, 0, 185, 180, 0, 192, 172]
abbrev dktX1_entryKind_0 : List UInt8 := dkwX1_entryKind_0 ++ []
theorem dksX1_entryKind_0 : cX1_entryKind.data.toList.drop 0 = dktX1_entryKind_0 := by decide +kernel
theorem dX1_entryKind_0 : decode cX1_entryKind 0 = .ok (.aload_n 0, 1) := dk_42 (dk_at dksX1_entryKind_0 0 rfl rfl)
theorem dX1_entryKind_1 : decode cX1_entryKind 1 = .ok (.iload_n 1, 1) := dk_27 (dk_at dksX1_entryKind_0 1 rfl rfl)
theorem dX1_entryKind_2 : decode cX1_entryKind 2 = .ok (.iload_n 2, 1) := dk_28 (dk_at dksX1_entryKind_0 2 rfl rfl)
theorem dX1_entryKind_3 : decode cX1_entryKind 3 = .ok (.invokevirtual 185, 3) := dk_182 0 185 (dk_at dksX1_entryKind_0 3 rfl rfl)
theorem dX1_entryKind_6 : decode cX1_entryKind 6 = .ok (.getfield 192, 3) := dk_180 0 192 (dk_at dksX1_entryKind_0 6 rfl rfl)
theorem dX1_entryKind_9 : decode cX1_entryKind 9 = .ok (.ireturn, 1) := dk_172 (dk_at dksX1_entryKind_0 9 rfl rfl)
abbrev cX1_earliest : ByteArray := prog_1_method_32_code
def yX1_earliest : MethodName := ⟨RX1, "earliest", "()I"⟩
def dkwX1_earliest_1 : List UInt8 := [182, 0, 84, 192, 0, 209, 180, 0, 211, 172]
abbrev dktX1_earliest_1 : List UInt8 := dkwX1_earliest_1 ++ []
def dkwX1_earliest_0 : List UInt8 := [42, 180, 0, 42, 182, 0, 214, 154, 0, 7, 4, 167, 0, 4, 3, 184, 0, 164, 42, 180, 0, 42, 3]
abbrev dktX1_earliest_0 : List UInt8 := dkwX1_earliest_0 ++ dktX1_earliest_1
theorem dksX1_earliest_0 : cX1_earliest.data.toList.drop 0 = dktX1_earliest_0 := by decide +kernel
theorem dksX1_earliest_1 : cX1_earliest.data.toList.drop 23 = dktX1_earliest_1 := dk_seg dksX1_earliest_0 23 rfl rfl
theorem dX1_earliest_0 : decode cX1_earliest 0 = .ok (.aload_n 0, 1) := dk_42 (dk_at dksX1_earliest_0 0 rfl rfl)
theorem dX1_earliest_1 : decode cX1_earliest 1 = .ok (.getfield 42, 3) := dk_180 0 42 (dk_at dksX1_earliest_0 1 rfl rfl)
theorem dX1_earliest_4 : decode cX1_earliest 4 = .ok (.invokevirtual 214, 3) := dk_182 0 214 (dk_at dksX1_earliest_0 4 rfl rfl)
theorem dX1_earliest_7 : decode cX1_earliest 7 = .ok (.ifCond .ne 7, 3) := dk_154 0 7 (dk_at dksX1_earliest_0 7 rfl rfl)
theorem dX1_earliest_10 : decode cX1_earliest 10 = .ok (.iconst 1, 1) := dk_4 (dk_at dksX1_earliest_0 10 rfl rfl)
theorem dX1_earliest_11 : decode cX1_earliest 11 = .ok (.goto 4, 3) := dk_167 0 4 (dk_at dksX1_earliest_0 11 rfl rfl)
theorem dX1_earliest_14 : decode cX1_earliest 14 = .ok (.iconst 0, 1) := dk_3 (dk_at dksX1_earliest_0 14 rfl rfl)
theorem dX1_earliest_15 : decode cX1_earliest 15 = .ok (.invokestatic 164, 3) := dk_184 0 164 (dk_at dksX1_earliest_0 15 rfl rfl)
theorem dX1_earliest_18 : decode cX1_earliest 18 = .ok (.aload_n 0, 1) := dk_42 (dk_at dksX1_earliest_0 18 rfl rfl)
theorem dX1_earliest_19 : decode cX1_earliest 19 = .ok (.getfield 42, 3) := dk_180 0 42 (dk_at dksX1_earliest_0 19 rfl rfl)
theorem dX1_earliest_22 : decode cX1_earliest 22 = .ok (.iconst 0, 1) := dk_3 (dk_at dksX1_earliest_0 22 rfl rfl)
theorem dX1_earliest_23 : decode cX1_earliest 23 = .ok (.invokevirtual 84, 3) := dk_182 0 84 (dk_at dksX1_earliest_1 0 rfl rfl)
theorem dX1_earliest_26 : decode cX1_earliest 26 = .ok (.checkcast 209, 3) := dk_192 0 209 (dk_at dksX1_earliest_1 3 rfl rfl)
theorem dX1_earliest_29 : decode cX1_earliest 29 = .ok (.getfield 211, 3) := dk_180 0 211 (dk_at dksX1_earliest_1 6 rfl rfl)
theorem dX1_earliest_32 : decode cX1_earliest 32 = .ok (.ireturn, 1) := dk_172 (dk_at dksX1_earliest_1 9 rfl rfl)
abbrev cX1_kindOf : ByteArray := prog_1_method_33_code
def yX1_kindOf : MethodName := ⟨RX1, "kindOf", "(I)C"⟩
def dkwX1_kindOf_0 : List UInt8 := [42, 27, 182, 0, 217, 182, 0, 221, 172]
abbrev dktX1_kindOf_0 : List UInt8 := dkwX1_kindOf_0 ++ []
theorem dksX1_kindOf_0 : cX1_kindOf.data.toList.drop 0 = dktX1_kindOf_0 := by decide +kernel
theorem dX1_kindOf_0 : decode cX1_kindOf 0 = .ok (.aload_n 0, 1) := dk_42 (dk_at dksX1_kindOf_0 0 rfl rfl)
theorem dX1_kindOf_1 : decode cX1_kindOf 1 = .ok (.iload_n 1, 1) := dk_27 (dk_at dksX1_kindOf_0 1 rfl rfl)
theorem dX1_kindOf_2 : decode cX1_kindOf 2 = .ok (.invokevirtual 217, 3) := dk_182 0 217 (dk_at dksX1_kindOf_0 2 rfl rfl)
theorem dX1_kindOf_5 : decode cX1_kindOf 5 = .ok (.invokevirtual 221, 3) := dk_182 0 221 (dk_at dksX1_kindOf_0 5 rfl rfl)
theorem dX1_kindOf_8 : decode cX1_kindOf 8 = .ok (.ireturn, 1) := dk_172 (dk_at dksX1_kindOf_0 8 rfl rfl)
abbrev cX1_message : ByteArray := prog_1_method_30_code
def yX1_message : MethodName := ⟨RX1, "message", "(I)LQuorumAlmanac$Message;"⟩
def dkwX1_message_2 : List UInt8 := [44, 77, 167, 255, 220, 44, 198, 0, 7, 4, 167, 0, 4, 3, 184, 0, 164, 44, 176]
abbrev dktX1_message_2 : List UInt8 := dkwX1_message_2 ++ []
def dkwX1_message_1 : List UInt8 := [185, 0, 205, 1, 0, 192, 0, 209, 58, 4, 25, 4, 180, 0, 211, 27, 160, 0, 8, 25, 4, 167, 0, 4]
abbrev dktX1_message_1 : List UInt8 := dkwX1_message_1 ++ dktX1_message_2
def dkwX1_message_0 : List UInt8 := [1, 77, 42, 180, 0, 42, 182, 0, 195, 78, 45, 185, 0, 199, 1, 0, 153, 0, 33, 45]
abbrev dktX1_message_0 : List UInt8 := dkwX1_message_0 ++ dktX1_message_1
theorem dksX1_message_0 : cX1_message.data.toList.drop 0 = dktX1_message_0 := by decide +kernel
theorem dksX1_message_1 : cX1_message.data.toList.drop 20 = dktX1_message_1 := dk_seg dksX1_message_0 20 rfl rfl
theorem dksX1_message_2 : cX1_message.data.toList.drop 44 = dktX1_message_2 := dk_seg dksX1_message_1 24 rfl rfl
theorem dX1_message_0 : decode cX1_message 0 = .ok (.aconst_null, 1) := dk_1 (dk_at dksX1_message_0 0 rfl rfl)
theorem dX1_message_1 : decode cX1_message 1 = .ok (.astore_n 2, 1) := dk_77 (dk_at dksX1_message_0 1 rfl rfl)
theorem dX1_message_2 : decode cX1_message 2 = .ok (.aload_n 0, 1) := dk_42 (dk_at dksX1_message_0 2 rfl rfl)
theorem dX1_message_3 : decode cX1_message 3 = .ok (.getfield 42, 3) := dk_180 0 42 (dk_at dksX1_message_0 3 rfl rfl)
theorem dX1_message_6 : decode cX1_message 6 = .ok (.invokevirtual 195, 3) := dk_182 0 195 (dk_at dksX1_message_0 6 rfl rfl)
theorem dX1_message_9 : decode cX1_message 9 = .ok (.astore_n 3, 1) := dk_78 (dk_at dksX1_message_0 9 rfl rfl)
theorem dX1_message_10 : decode cX1_message 10 = .ok (.aload_n 3, 1) := dk_45 (dk_at dksX1_message_0 10 rfl rfl)
theorem dX1_message_11 : decode cX1_message 11 = .ok (.invokeinterface 199 1, 5) := by decide +kernel
theorem dX1_message_16 : decode cX1_message 16 = .ok (.ifCond .eq 33, 3) := dk_153 0 33 (dk_at dksX1_message_0 16 rfl rfl)
theorem dX1_message_19 : decode cX1_message 19 = .ok (.aload_n 3, 1) := dk_45 (dk_at dksX1_message_0 19 rfl rfl)
theorem dX1_message_20 : decode cX1_message 20 = .ok (.invokeinterface 205 1, 5) := by decide +kernel
theorem dX1_message_25 : decode cX1_message 25 = .ok (.checkcast 209, 3) := dk_192 0 209 (dk_at dksX1_message_1 5 rfl rfl)
theorem dX1_message_28 : decode cX1_message 28 = .ok (.astore 4, 2) := dk_58 4 (dk_at dksX1_message_1 8 rfl rfl)
theorem dX1_message_30 : decode cX1_message 30 = .ok (.aload 4, 2) := dk_25 4 (dk_at dksX1_message_1 10 rfl rfl)
theorem dX1_message_32 : decode cX1_message 32 = .ok (.getfield 211, 3) := dk_180 0 211 (dk_at dksX1_message_1 12 rfl rfl)
theorem dX1_message_35 : decode cX1_message 35 = .ok (.iload_n 1, 1) := dk_27 (dk_at dksX1_message_1 15 rfl rfl)
theorem dX1_message_36 : decode cX1_message 36 = .ok (.if_icmp .ne 8, 3) := dk_160 0 8 (dk_at dksX1_message_1 16 rfl rfl)
theorem dX1_message_39 : decode cX1_message 39 = .ok (.aload 4, 2) := dk_25 4 (dk_at dksX1_message_1 19 rfl rfl)
theorem dX1_message_41 : decode cX1_message 41 = .ok (.goto 4, 3) := dk_167 0 4 (dk_at dksX1_message_1 21 rfl rfl)
theorem dX1_message_44 : decode cX1_message 44 = .ok (.aload_n 2, 1) := dk_44 (dk_at dksX1_message_2 0 rfl rfl)
theorem dX1_message_45 : decode cX1_message 45 = .ok (.astore_n 2, 1) := dk_77 (dk_at dksX1_message_2 1 rfl rfl)
theorem dX1_message_46 : decode cX1_message 46 = .ok (.goto (-36), 3) := dk_167 255 220 (dk_at dksX1_message_2 2 rfl rfl)
theorem dX1_message_49 : decode cX1_message 49 = .ok (.aload_n 2, 1) := dk_44 (dk_at dksX1_message_2 5 rfl rfl)
theorem dX1_message_50 : decode cX1_message 50 = .ok (.ifnull 7, 3) := dk_198 0 7 (dk_at dksX1_message_2 6 rfl rfl)
theorem dX1_message_53 : decode cX1_message 53 = .ok (.iconst 1, 1) := dk_4 (dk_at dksX1_message_2 9 rfl rfl)
theorem dX1_message_54 : decode cX1_message 54 = .ok (.goto 4, 3) := dk_167 0 4 (dk_at dksX1_message_2 10 rfl rfl)
theorem dX1_message_57 : decode cX1_message 57 = .ok (.iconst 0, 1) := dk_3 (dk_at dksX1_message_2 13 rfl rfl)
theorem dX1_message_58 : decode cX1_message 58 = .ok (.invokestatic 164, 3) := dk_184 0 164 (dk_at dksX1_message_2 14 rfl rfl)
theorem dX1_message_61 : decode cX1_message 61 = .ok (.aload_n 2, 1) := dk_44 (dk_at dksX1_message_2 17 rfl rfl)
theorem dX1_message_62 : decode cX1_message 62 = .ok (.areturn, 1) := dk_176 (dk_at dksX1_message_2 18 rfl rfl)
abbrev cX1_between : ByteArray := prog_1_method_34_code
def yX1_between : MethodName := ⟨RX1, "between", "(I)I"⟩
def dkwX1_between_0 : List UInt8 := [42, 27, 182, 0, 217, 77, 16, 10, 44, 180, 0, 224, 104, 44, 180, 0, 227, 96, 172]
abbrev dktX1_between_0 : List UInt8 := dkwX1_between_0 ++ []
theorem dksX1_between_0 : cX1_between.data.toList.drop 0 = dktX1_between_0 := by decide +kernel
theorem dX1_between_0 : decode cX1_between 0 = .ok (.aload_n 0, 1) := dk_42 (dk_at dksX1_between_0 0 rfl rfl)
theorem dX1_between_1 : decode cX1_between 1 = .ok (.iload_n 1, 1) := dk_27 (dk_at dksX1_between_0 1 rfl rfl)
theorem dX1_between_2 : decode cX1_between 2 = .ok (.invokevirtual 217, 3) := dk_182 0 217 (dk_at dksX1_between_0 2 rfl rfl)
theorem dX1_between_5 : decode cX1_between 5 = .ok (.astore_n 2, 1) := dk_77 (dk_at dksX1_between_0 5 rfl rfl)
theorem dX1_between_6 : decode cX1_between 6 = .ok (.bipush 10, 2) := dk_16 10 (dk_at dksX1_between_0 6 rfl rfl)
theorem dX1_between_8 : decode cX1_between 8 = .ok (.aload_n 2, 1) := dk_44 (dk_at dksX1_between_0 8 rfl rfl)
theorem dX1_between_9 : decode cX1_between 9 = .ok (.getfield 224, 3) := dk_180 0 224 (dk_at dksX1_between_0 9 rfl rfl)
theorem dX1_between_12 : decode cX1_between 12 = .ok (.imul, 1) := dk_104 (dk_at dksX1_between_0 12 rfl rfl)
theorem dX1_between_13 : decode cX1_between 13 = .ok (.aload_n 2, 1) := dk_44 (dk_at dksX1_between_0 13 rfl rfl)
theorem dX1_between_14 : decode cX1_between 14 = .ok (.getfield 227, 3) := dk_180 0 227 (dk_at dksX1_between_0 14 rfl rfl)
theorem dX1_between_17 : decode cX1_between 17 = .ok (.iadd, 1) := dk_96 (dk_at dksX1_between_0 17 rfl rfl)
theorem dX1_between_18 : decode cX1_between 18 = .ok (.ireturn, 1) := dk_172 (dk_at dksX1_between_0 18 rfl rfl)
abbrev cX1_deliver : ByteArray := prog_1_method_35_code
def yX1_deliver : MethodName := ⟨RX1, "deliver", "(I)I"⟩
def dkwX1_deliver_3 : List UInt8 := [167, 0, 4, 3, 184, 0, 116, 42, 180, 0, 94, 29, 100, 172]
abbrev dktX1_deliver_3 : List UInt8 := dkwX1_deliver_3 ++ []
def dkwX1_deliver_2 : List UInt8 := [44, 42, 180, 0, 35, 44, 180, 0, 227, 50, 182, 0, 236, 22, 4, 42, 180, 0, 232, 148, 156, 0, 7, 4]
abbrev dktX1_deliver_2 : List UInt8 := dkwX1_deliver_2 ++ dktX1_deliver_3
def dkwX1_deliver_1 : List UInt8 := [44, 180, 0, 227, 50, 180, 0, 113, 153, 0, 47, 42, 89, 180, 0, 232, 93, 10, 97, 181, 0, 232, 55, 4]
abbrev dktX1_deliver_1 : List UInt8 := dkwX1_deliver_1 ++ dktX1_deliver_2
def dkwX1_deliver_0 : List UInt8 := [42, 27, 182, 0, 217, 77, 42, 180, 0, 94, 62, 42, 180, 0, 42, 44, 182, 0, 230, 87, 42, 180, 0, 35]
abbrev dktX1_deliver_0 : List UInt8 := dkwX1_deliver_0 ++ dktX1_deliver_1
theorem dksX1_deliver_0 : cX1_deliver.data.toList.drop 0 = dktX1_deliver_0 := by decide +kernel
theorem dksX1_deliver_1 : cX1_deliver.data.toList.drop 24 = dktX1_deliver_1 := dk_seg dksX1_deliver_0 24 rfl rfl
theorem dksX1_deliver_2 : cX1_deliver.data.toList.drop 48 = dktX1_deliver_2 := dk_seg dksX1_deliver_1 24 rfl rfl
theorem dksX1_deliver_3 : cX1_deliver.data.toList.drop 72 = dktX1_deliver_3 := dk_seg dksX1_deliver_2 24 rfl rfl
theorem dX1_deliver_0 : decode cX1_deliver 0 = .ok (.aload_n 0, 1) := dk_42 (dk_at dksX1_deliver_0 0 rfl rfl)
theorem dX1_deliver_1 : decode cX1_deliver 1 = .ok (.iload_n 1, 1) := dk_27 (dk_at dksX1_deliver_0 1 rfl rfl)
theorem dX1_deliver_2 : decode cX1_deliver 2 = .ok (.invokevirtual 217, 3) := dk_182 0 217 (dk_at dksX1_deliver_0 2 rfl rfl)
theorem dX1_deliver_5 : decode cX1_deliver 5 = .ok (.astore_n 2, 1) := dk_77 (dk_at dksX1_deliver_0 5 rfl rfl)
theorem dX1_deliver_6 : decode cX1_deliver 6 = .ok (.aload_n 0, 1) := dk_42 (dk_at dksX1_deliver_0 6 rfl rfl)
theorem dX1_deliver_7 : decode cX1_deliver 7 = .ok (.getfield 94, 3) := dk_180 0 94 (dk_at dksX1_deliver_0 7 rfl rfl)
theorem dX1_deliver_10 : decode cX1_deliver 10 = .ok (.istore_n 3, 1) := dk_62 (dk_at dksX1_deliver_0 10 rfl rfl)
theorem dX1_deliver_11 : decode cX1_deliver 11 = .ok (.aload_n 0, 1) := dk_42 (dk_at dksX1_deliver_0 11 rfl rfl)
theorem dX1_deliver_12 : decode cX1_deliver 12 = .ok (.getfield 42, 3) := dk_180 0 42 (dk_at dksX1_deliver_0 12 rfl rfl)
theorem dX1_deliver_15 : decode cX1_deliver 15 = .ok (.aload_n 2, 1) := dk_44 (dk_at dksX1_deliver_0 15 rfl rfl)
theorem dX1_deliver_16 : decode cX1_deliver 16 = .ok (.invokevirtual 230, 3) := dk_182 0 230 (dk_at dksX1_deliver_0 16 rfl rfl)
theorem dX1_deliver_19 : decode cX1_deliver 19 = .ok (.pop, 1) := dk_87 (dk_at dksX1_deliver_0 19 rfl rfl)
theorem dX1_deliver_20 : decode cX1_deliver 20 = .ok (.aload_n 0, 1) := dk_42 (dk_at dksX1_deliver_0 20 rfl rfl)
theorem dX1_deliver_21 : decode cX1_deliver 21 = .ok (.getfield 35, 3) := dk_180 0 35 (dk_at dksX1_deliver_0 21 rfl rfl)
theorem dX1_deliver_24 : decode cX1_deliver 24 = .ok (.aload_n 2, 1) := dk_44 (dk_at dksX1_deliver_1 0 rfl rfl)
theorem dX1_deliver_25 : decode cX1_deliver 25 = .ok (.getfield 227, 3) := dk_180 0 227 (dk_at dksX1_deliver_1 1 rfl rfl)
theorem dX1_deliver_28 : decode cX1_deliver 28 = .ok (.aaload, 1) := dk_50 (dk_at dksX1_deliver_1 4 rfl rfl)
theorem dX1_deliver_29 : decode cX1_deliver 29 = .ok (.getfield 113, 3) := dk_180 0 113 (dk_at dksX1_deliver_1 5 rfl rfl)
theorem dX1_deliver_32 : decode cX1_deliver 32 = .ok (.ifCond .eq 47, 3) := dk_153 0 47 (dk_at dksX1_deliver_1 8 rfl rfl)
theorem dX1_deliver_35 : decode cX1_deliver 35 = .ok (.aload_n 0, 1) := dk_42 (dk_at dksX1_deliver_1 11 rfl rfl)
theorem dX1_deliver_36 : decode cX1_deliver 36 = .ok (.dup, 1) := dk_89 (dk_at dksX1_deliver_1 12 rfl rfl)
theorem dX1_deliver_37 : decode cX1_deliver 37 = .ok (.getfield 232, 3) := dk_180 0 232 (dk_at dksX1_deliver_1 13 rfl rfl)
theorem dX1_deliver_40 : decode cX1_deliver 40 = .ok (.dup2_x1, 1) := dk_93 (dk_at dksX1_deliver_1 16 rfl rfl)
theorem dX1_deliver_41 : decode cX1_deliver 41 = .ok (.lconst 1, 1) := dk_10 (dk_at dksX1_deliver_1 17 rfl rfl)
theorem dX1_deliver_42 : decode cX1_deliver 42 = .ok (.ladd, 1) := dk_97 (dk_at dksX1_deliver_1 18 rfl rfl)
theorem dX1_deliver_43 : decode cX1_deliver 43 = .ok (.putfield 232, 3) := dk_181 0 232 (dk_at dksX1_deliver_1 19 rfl rfl)
theorem dX1_deliver_46 : decode cX1_deliver 46 = .ok (.lstore 4, 2) := dk_55 4 (dk_at dksX1_deliver_1 22 rfl rfl)
theorem dX1_deliver_48 : decode cX1_deliver 48 = .ok (.aload_n 2, 1) := dk_44 (dk_at dksX1_deliver_2 0 rfl rfl)
theorem dX1_deliver_49 : decode cX1_deliver 49 = .ok (.aload_n 0, 1) := dk_42 (dk_at dksX1_deliver_2 1 rfl rfl)
theorem dX1_deliver_50 : decode cX1_deliver 50 = .ok (.getfield 35, 3) := dk_180 0 35 (dk_at dksX1_deliver_2 2 rfl rfl)
theorem dX1_deliver_53 : decode cX1_deliver 53 = .ok (.aload_n 2, 1) := dk_44 (dk_at dksX1_deliver_2 5 rfl rfl)
theorem dX1_deliver_54 : decode cX1_deliver 54 = .ok (.getfield 227, 3) := dk_180 0 227 (dk_at dksX1_deliver_2 6 rfl rfl)
theorem dX1_deliver_57 : decode cX1_deliver 57 = .ok (.aaload, 1) := dk_50 (dk_at dksX1_deliver_2 9 rfl rfl)
theorem dX1_deliver_58 : decode cX1_deliver 58 = .ok (.invokevirtual 236, 3) := dk_182 0 236 (dk_at dksX1_deliver_2 10 rfl rfl)
theorem dX1_deliver_61 : decode cX1_deliver 61 = .ok (.lload 4, 2) := dk_22 4 (dk_at dksX1_deliver_2 13 rfl rfl)
theorem dX1_deliver_63 : decode cX1_deliver 63 = .ok (.aload_n 0, 1) := dk_42 (dk_at dksX1_deliver_2 15 rfl rfl)
theorem dX1_deliver_64 : decode cX1_deliver 64 = .ok (.getfield 232, 3) := dk_180 0 232 (dk_at dksX1_deliver_2 16 rfl rfl)
theorem dX1_deliver_67 : decode cX1_deliver 67 = .ok (.lcmp, 1) := dk_148 (dk_at dksX1_deliver_2 19 rfl rfl)
theorem dX1_deliver_68 : decode cX1_deliver 68 = .ok (.ifCond .ge 7, 3) := dk_156 0 7 (dk_at dksX1_deliver_2 20 rfl rfl)
theorem dX1_deliver_71 : decode cX1_deliver 71 = .ok (.iconst 1, 1) := dk_4 (dk_at dksX1_deliver_2 23 rfl rfl)
theorem dX1_deliver_72 : decode cX1_deliver 72 = .ok (.goto 4, 3) := dk_167 0 4 (dk_at dksX1_deliver_3 0 rfl rfl)
theorem dX1_deliver_75 : decode cX1_deliver 75 = .ok (.iconst 0, 1) := dk_3 (dk_at dksX1_deliver_3 3 rfl rfl)
theorem dX1_deliver_76 : decode cX1_deliver 76 = .ok (.invokestatic 116, 3) := dk_184 0 116 (dk_at dksX1_deliver_3 4 rfl rfl)
theorem dX1_deliver_79 : decode cX1_deliver 79 = .ok (.aload_n 0, 1) := dk_42 (dk_at dksX1_deliver_3 7 rfl rfl)
theorem dX1_deliver_80 : decode cX1_deliver 80 = .ok (.getfield 94, 3) := dk_180 0 94 (dk_at dksX1_deliver_3 8 rfl rfl)
theorem dX1_deliver_83 : decode cX1_deliver 83 = .ok (.iload_n 3, 1) := dk_29 (dk_at dksX1_deliver_3 11 rfl rfl)
theorem dX1_deliver_84 : decode cX1_deliver 84 = .ok (.isub, 1) := dk_100 (dk_at dksX1_deliver_3 12 rfl rfl)
theorem dX1_deliver_85 : decode cX1_deliver 85 = .ok (.ireturn, 1) := dk_172 (dk_at dksX1_deliver_3 13 rfl rfl)
abbrev cX1_lose : ByteArray := prog_1_method_36_code
def yX1_lose : MethodName := ⟨RX1, "lose", "(I)I"⟩
def dkwX1_lose_0 : List UInt8 := [42, 180, 0, 42, 42, 27, 182, 0, 217, 182, 0, 230, 87, 42, 180, 0, 42, 182, 0, 76, 172]
abbrev dktX1_lose_0 : List UInt8 := dkwX1_lose_0 ++ []
theorem dksX1_lose_0 : cX1_lose.data.toList.drop 0 = dktX1_lose_0 := by decide +kernel
theorem dX1_lose_0 : decode cX1_lose 0 = .ok (.aload_n 0, 1) := dk_42 (dk_at dksX1_lose_0 0 rfl rfl)
theorem dX1_lose_1 : decode cX1_lose 1 = .ok (.getfield 42, 3) := dk_180 0 42 (dk_at dksX1_lose_0 1 rfl rfl)
theorem dX1_lose_4 : decode cX1_lose 4 = .ok (.aload_n 0, 1) := dk_42 (dk_at dksX1_lose_0 4 rfl rfl)
theorem dX1_lose_5 : decode cX1_lose 5 = .ok (.iload_n 1, 1) := dk_27 (dk_at dksX1_lose_0 5 rfl rfl)
theorem dX1_lose_6 : decode cX1_lose 6 = .ok (.invokevirtual 217, 3) := dk_182 0 217 (dk_at dksX1_lose_0 6 rfl rfl)
theorem dX1_lose_9 : decode cX1_lose 9 = .ok (.invokevirtual 230, 3) := dk_182 0 230 (dk_at dksX1_lose_0 9 rfl rfl)
theorem dX1_lose_12 : decode cX1_lose 12 = .ok (.pop, 1) := dk_87 (dk_at dksX1_lose_0 12 rfl rfl)
theorem dX1_lose_13 : decode cX1_lose 13 = .ok (.aload_n 0, 1) := dk_42 (dk_at dksX1_lose_0 13 rfl rfl)
theorem dX1_lose_14 : decode cX1_lose 14 = .ok (.getfield 42, 3) := dk_180 0 42 (dk_at dksX1_lose_0 14 rfl rfl)
theorem dX1_lose_17 : decode cX1_lose 17 = .ok (.invokevirtual 76, 3) := dk_182 0 76 (dk_at dksX1_lose_0 17 rfl rfl)
theorem dX1_lose_20 : decode cX1_lose 20 = .ok (.ireturn, 1) := dk_172 (dk_at dksX1_lose_0 20 rfl rfl)
abbrev cX1_copy : ByteArray := prog_1_method_37_code
def yX1_copy : MethodName := ⟨RX1, "copy", "(I)I"⟩
def dkwX1_copy_0 : List UInt8 := [42, 27, 182, 0, 217, 77, 42, 182, 0, 240, 62, 42, 44, 29, 182, 0, 243, 182, 0, 246, 29, 172]
abbrev dktX1_copy_0 : List UInt8 := dkwX1_copy_0 ++ []
theorem dksX1_copy_0 : cX1_copy.data.toList.drop 0 = dktX1_copy_0 := by decide +kernel
theorem dX1_copy_0 : decode cX1_copy 0 = .ok (.aload_n 0, 1) := dk_42 (dk_at dksX1_copy_0 0 rfl rfl)
theorem dX1_copy_1 : decode cX1_copy 1 = .ok (.iload_n 1, 1) := dk_27 (dk_at dksX1_copy_0 1 rfl rfl)
theorem dX1_copy_2 : decode cX1_copy 2 = .ok (.invokevirtual 217, 3) := dk_182 0 217 (dk_at dksX1_copy_0 2 rfl rfl)
theorem dX1_copy_5 : decode cX1_copy 5 = .ok (.astore_n 2, 1) := dk_77 (dk_at dksX1_copy_0 5 rfl rfl)
theorem dX1_copy_6 : decode cX1_copy 6 = .ok (.aload_n 0, 1) := dk_42 (dk_at dksX1_copy_0 6 rfl rfl)
theorem dX1_copy_7 : decode cX1_copy 7 = .ok (.invokevirtual 240, 3) := dk_182 0 240 (dk_at dksX1_copy_0 7 rfl rfl)
theorem dX1_copy_10 : decode cX1_copy 10 = .ok (.istore_n 3, 1) := dk_62 (dk_at dksX1_copy_0 10 rfl rfl)
theorem dX1_copy_11 : decode cX1_copy 11 = .ok (.aload_n 0, 1) := dk_42 (dk_at dksX1_copy_0 11 rfl rfl)
theorem dX1_copy_12 : decode cX1_copy 12 = .ok (.aload_n 2, 1) := dk_44 (dk_at dksX1_copy_0 12 rfl rfl)
theorem dX1_copy_13 : decode cX1_copy 13 = .ok (.iload_n 3, 1) := dk_29 (dk_at dksX1_copy_0 13 rfl rfl)
theorem dX1_copy_14 : decode cX1_copy 14 = .ok (.invokevirtual 243, 3) := dk_182 0 243 (dk_at dksX1_copy_0 14 rfl rfl)
theorem dX1_copy_17 : decode cX1_copy 17 = .ok (.invokevirtual 246, 3) := dk_182 0 246 (dk_at dksX1_copy_0 17 rfl rfl)
theorem dX1_copy_20 : decode cX1_copy 20 = .ok (.iload_n 3, 1) := dk_29 (dk_at dksX1_copy_0 20 rfl rfl)
theorem dX1_copy_21 : decode cX1_copy 21 = .ok (.ireturn, 1) := dk_172 (dk_at dksX1_copy_0 21 rfl rfl)
abbrev cX1_write : ByteArray := prog_1_method_40_code
def yX1_write : MethodName := ⟨RX1, "write", "(III)I"⟩
def dkwX1_write_3 : List UInt8 := [182, 1, 13, 172]
abbrev dktX1_write_3 : List UInt8 := dkwX1_write_3 ++ []
def dkwX1_write_2 : List UInt8 := [182, 1, 1, 16, 80, 162, 0, 7, 4, 167, 0, 4, 3, 184, 0, 116, 42, 25, 4, 16, 119, 28, 29]
abbrev dktX1_write_2 : List UInt8 := dkwX1_write_2 ++ dktX1_write_3
def dkwX1_write_1 : List UInt8 := [184, 0, 101, 153, 0, 7, 4, 167, 0, 4, 3, 184, 1, 7, 42, 27, 182, 1, 10, 58, 4, 25, 4]
abbrev dktX1_write_1 : List UInt8 := dkwX1_write_1 ++ dktX1_write_2
def dkwX1_write_0 : List UInt8 := [42, 27, 182, 0, 109, 87, 28, 3, 16, 19, 184, 0, 101, 153, 0, 20, 29, 17, 252, 25, 17, 3, 231]
abbrev dktX1_write_0 : List UInt8 := dkwX1_write_0 ++ dktX1_write_1
theorem dksX1_write_0 : cX1_write.data.toList.drop 0 = dktX1_write_0 := by decide +kernel
theorem dksX1_write_1 : cX1_write.data.toList.drop 23 = dktX1_write_1 := dk_seg dksX1_write_0 23 rfl rfl
theorem dksX1_write_2 : cX1_write.data.toList.drop 46 = dktX1_write_2 := dk_seg dksX1_write_1 23 rfl rfl
theorem dksX1_write_3 : cX1_write.data.toList.drop 69 = dktX1_write_3 := dk_seg dksX1_write_2 23 rfl rfl
theorem dX1_write_0 : decode cX1_write 0 = .ok (.aload_n 0, 1) := dk_42 (dk_at dksX1_write_0 0 rfl rfl)
theorem dX1_write_1 : decode cX1_write 1 = .ok (.iload_n 1, 1) := dk_27 (dk_at dksX1_write_0 1 rfl rfl)
theorem dX1_write_2 : decode cX1_write 2 = .ok (.invokevirtual 109, 3) := dk_182 0 109 (dk_at dksX1_write_0 2 rfl rfl)
theorem dX1_write_5 : decode cX1_write 5 = .ok (.pop, 1) := dk_87 (dk_at dksX1_write_0 5 rfl rfl)
theorem dX1_write_6 : decode cX1_write 6 = .ok (.iload_n 2, 1) := dk_28 (dk_at dksX1_write_0 6 rfl rfl)
theorem dX1_write_7 : decode cX1_write 7 = .ok (.iconst 0, 1) := dk_3 (dk_at dksX1_write_0 7 rfl rfl)
theorem dX1_write_8 : decode cX1_write 8 = .ok (.bipush 19, 2) := dk_16 19 (dk_at dksX1_write_0 8 rfl rfl)
theorem dX1_write_10 : decode cX1_write 10 = .ok (.invokestatic 101, 3) := dk_184 0 101 (dk_at dksX1_write_0 10 rfl rfl)
theorem dX1_write_13 : decode cX1_write 13 = .ok (.ifCond .eq 20, 3) := dk_153 0 20 (dk_at dksX1_write_0 13 rfl rfl)
theorem dX1_write_16 : decode cX1_write 16 = .ok (.iload_n 3, 1) := dk_29 (dk_at dksX1_write_0 16 rfl rfl)
theorem dX1_write_17 : decode cX1_write 17 = .ok (.sipush (-999), 3) := dk_17 252 25 (dk_at dksX1_write_0 17 rfl rfl)
theorem dX1_write_20 : decode cX1_write 20 = .ok (.sipush 999, 3) := dk_17 3 231 (dk_at dksX1_write_0 20 rfl rfl)
theorem dX1_write_23 : decode cX1_write 23 = .ok (.invokestatic 101, 3) := dk_184 0 101 (dk_at dksX1_write_1 0 rfl rfl)
theorem dX1_write_26 : decode cX1_write 26 = .ok (.ifCond .eq 7, 3) := dk_153 0 7 (dk_at dksX1_write_1 3 rfl rfl)
theorem dX1_write_29 : decode cX1_write 29 = .ok (.iconst 1, 1) := dk_4 (dk_at dksX1_write_1 6 rfl rfl)
theorem dX1_write_30 : decode cX1_write 30 = .ok (.goto 4, 3) := dk_167 0 4 (dk_at dksX1_write_1 7 rfl rfl)
theorem dX1_write_33 : decode cX1_write 33 = .ok (.iconst 0, 1) := dk_3 (dk_at dksX1_write_1 10 rfl rfl)
theorem dX1_write_34 : decode cX1_write 34 = .ok (.invokestatic 263, 3) := dk_184 1 7 (dk_at dksX1_write_1 11 rfl rfl)
theorem dX1_write_37 : decode cX1_write 37 = .ok (.aload_n 0, 1) := dk_42 (dk_at dksX1_write_1 14 rfl rfl)
theorem dX1_write_38 : decode cX1_write 38 = .ok (.iload_n 1, 1) := dk_27 (dk_at dksX1_write_1 15 rfl rfl)
theorem dX1_write_39 : decode cX1_write 39 = .ok (.invokevirtual 266, 3) := dk_182 1 10 (dk_at dksX1_write_1 16 rfl rfl)
theorem dX1_write_42 : decode cX1_write 42 = .ok (.astore 4, 2) := dk_58 4 (dk_at dksX1_write_1 19 rfl rfl)
theorem dX1_write_44 : decode cX1_write 44 = .ok (.aload 4, 2) := dk_25 4 (dk_at dksX1_write_1 21 rfl rfl)
theorem dX1_write_46 : decode cX1_write 46 = .ok (.invokevirtual 257, 3) := dk_182 1 1 (dk_at dksX1_write_2 0 rfl rfl)
theorem dX1_write_49 : decode cX1_write 49 = .ok (.bipush 80, 2) := dk_16 80 (dk_at dksX1_write_2 3 rfl rfl)
theorem dX1_write_51 : decode cX1_write 51 = .ok (.if_icmp .ge 7, 3) := dk_162 0 7 (dk_at dksX1_write_2 5 rfl rfl)
theorem dX1_write_54 : decode cX1_write 54 = .ok (.iconst 1, 1) := dk_4 (dk_at dksX1_write_2 8 rfl rfl)
theorem dX1_write_55 : decode cX1_write 55 = .ok (.goto 4, 3) := dk_167 0 4 (dk_at dksX1_write_2 9 rfl rfl)
theorem dX1_write_58 : decode cX1_write 58 = .ok (.iconst 0, 1) := dk_3 (dk_at dksX1_write_2 12 rfl rfl)
theorem dX1_write_59 : decode cX1_write 59 = .ok (.invokestatic 116, 3) := dk_184 0 116 (dk_at dksX1_write_2 13 rfl rfl)
theorem dX1_write_62 : decode cX1_write 62 = .ok (.aload_n 0, 1) := dk_42 (dk_at dksX1_write_2 16 rfl rfl)
theorem dX1_write_63 : decode cX1_write 63 = .ok (.aload 4, 2) := dk_25 4 (dk_at dksX1_write_2 17 rfl rfl)
theorem dX1_write_65 : decode cX1_write 65 = .ok (.bipush 119, 2) := dk_16 119 (dk_at dksX1_write_2 19 rfl rfl)
theorem dX1_write_67 : decode cX1_write 67 = .ok (.iload_n 2, 1) := dk_28 (dk_at dksX1_write_2 21 rfl rfl)
theorem dX1_write_68 : decode cX1_write 68 = .ok (.iload_n 3, 1) := dk_29 (dk_at dksX1_write_2 22 rfl rfl)
theorem dX1_write_69 : decode cX1_write 69 = .ok (.invokevirtual 269, 3) := dk_182 1 13 (dk_at dksX1_write_3 0 rfl rfl)
theorem dX1_write_72 : decode cX1_write 72 = .ok (.ireturn, 1) := dk_172 (dk_at dksX1_write_3 3 rfl rfl)
abbrev cX1_requireArgument : ByteArray := prog_1_method_3_code
def yX1_requireArgument : MethodName := ⟨RX1, "requireArgument", "(Z)V"⟩
def dkwX1_requireArgument_0 : List UInt8 := [26, 154, 0, 11, 187, 0, 7, 89, 183, 0, 9, 191, 177]
abbrev dktX1_requireArgument_0 : List UInt8 := dkwX1_requireArgument_0 ++ []
theorem dksX1_requireArgument_0 : cX1_requireArgument.data.toList.drop 0 = dktX1_requireArgument_0 := by decide +kernel
theorem dX1_requireArgument_0 : decode cX1_requireArgument 0 = .ok (.iload_n 0, 1) := dk_26 (dk_at dksX1_requireArgument_0 0 rfl rfl)
theorem dX1_requireArgument_1 : decode cX1_requireArgument 1 = .ok (.ifCond .ne 11, 3) := dk_154 0 11 (dk_at dksX1_requireArgument_0 1 rfl rfl)
theorem dX1_requireArgument_4 : decode cX1_requireArgument 4 = .ok (.new 7, 3) := dk_187 0 7 (dk_at dksX1_requireArgument_0 4 rfl rfl)
theorem dX1_requireArgument_7 : decode cX1_requireArgument 7 = .ok (.dup, 1) := dk_89 (dk_at dksX1_requireArgument_0 7 rfl rfl)
theorem dX1_requireArgument_8 : decode cX1_requireArgument 8 = .ok (.invokespecial 9, 3) := dk_183 0 9 (dk_at dksX1_requireArgument_0 8 rfl rfl)
theorem dX1_requireArgument_11 : decode cX1_requireArgument 11 = .ok (.athrow, 1) := dk_191 (dk_at dksX1_requireArgument_0 11 rfl rfl)
theorem dX1_requireArgument_12 : decode cX1_requireArgument 12 = .ok (.return_, 1) := dk_177 (dk_at dksX1_requireArgument_0 12 rfl rfl)
abbrev cX1_leader : ByteArray := prog_1_method_38_code
def yX1_leader : MethodName := ⟨RX1, "leader", "(I)LQuorumAlmanac$Node;"⟩
def dkwX1_leader_1 : List UInt8 := [167, 0, 4, 3, 184, 0, 116, 44, 176]
abbrev dktX1_leader_1 : List UInt8 := dkwX1_leader_1 ++ []
def dkwX1_leader_0 : List UInt8 := [42, 27, 182, 0, 109, 77, 44, 180, 0, 113, 153, 0, 16, 44, 180, 0, 152, 16, 108, 160, 0, 7, 4]
abbrev dktX1_leader_0 : List UInt8 := dkwX1_leader_0 ++ dktX1_leader_1
theorem dksX1_leader_0 : cX1_leader.data.toList.drop 0 = dktX1_leader_0 := by decide +kernel
theorem dksX1_leader_1 : cX1_leader.data.toList.drop 23 = dktX1_leader_1 := dk_seg dksX1_leader_0 23 rfl rfl
theorem dX1_leader_0 : decode cX1_leader 0 = .ok (.aload_n 0, 1) := dk_42 (dk_at dksX1_leader_0 0 rfl rfl)
theorem dX1_leader_1 : decode cX1_leader 1 = .ok (.iload_n 1, 1) := dk_27 (dk_at dksX1_leader_0 1 rfl rfl)
theorem dX1_leader_2 : decode cX1_leader 2 = .ok (.invokevirtual 109, 3) := dk_182 0 109 (dk_at dksX1_leader_0 2 rfl rfl)
theorem dX1_leader_5 : decode cX1_leader 5 = .ok (.astore_n 2, 1) := dk_77 (dk_at dksX1_leader_0 5 rfl rfl)
theorem dX1_leader_6 : decode cX1_leader 6 = .ok (.aload_n 2, 1) := dk_44 (dk_at dksX1_leader_0 6 rfl rfl)
theorem dX1_leader_7 : decode cX1_leader 7 = .ok (.getfield 113, 3) := dk_180 0 113 (dk_at dksX1_leader_0 7 rfl rfl)
theorem dX1_leader_10 : decode cX1_leader 10 = .ok (.ifCond .eq 16, 3) := dk_153 0 16 (dk_at dksX1_leader_0 10 rfl rfl)
theorem dX1_leader_13 : decode cX1_leader 13 = .ok (.aload_n 2, 1) := dk_44 (dk_at dksX1_leader_0 13 rfl rfl)
theorem dX1_leader_14 : decode cX1_leader 14 = .ok (.getfield 152, 3) := dk_180 0 152 (dk_at dksX1_leader_0 14 rfl rfl)
theorem dX1_leader_17 : decode cX1_leader 17 = .ok (.bipush 108, 2) := dk_16 108 (dk_at dksX1_leader_0 17 rfl rfl)
theorem dX1_leader_19 : decode cX1_leader 19 = .ok (.if_icmp .ne 7, 3) := dk_160 0 7 (dk_at dksX1_leader_0 19 rfl rfl)
theorem dX1_leader_22 : decode cX1_leader 22 = .ok (.iconst 1, 1) := dk_4 (dk_at dksX1_leader_0 22 rfl rfl)
theorem dX1_leader_23 : decode cX1_leader 23 = .ok (.goto 4, 3) := dk_167 0 4 (dk_at dksX1_leader_1 0 rfl rfl)
theorem dX1_leader_26 : decode cX1_leader 26 = .ok (.iconst 0, 1) := dk_3 (dk_at dksX1_leader_1 3 rfl rfl)
theorem dX1_leader_27 : decode cX1_leader 27 = .ok (.invokestatic 116, 3) := dk_184 0 116 (dk_at dksX1_leader_1 4 rfl rfl)
theorem dX1_leader_30 : decode cX1_leader 30 = .ok (.aload_n 2, 1) := dk_44 (dk_at dksX1_leader_1 7 rfl rfl)
theorem dX1_leader_31 : decode cX1_leader 31 = .ok (.areturn, 1) := dk_176 (dk_at dksX1_leader_1 8 rfl rfl)
abbrev cX1_propose : ByteArray := prog_1_method_39_code
def yX1_propose : MethodName := ⟨RX1, "propose", "(LQuorumAlmanac$Node;CII)I"⟩
def dkwX1_propose_1 : List UInt8 := [182, 1, 1, 54, 5, 43, 182, 1, 4, 21, 5, 172]
abbrev dktX1_propose_1 : List UInt8 := dkwX1_propose_1 ++ []
def dkwX1_propose_0 : List UInt8 := [43, 180, 0, 250, 187, 0, 88, 89, 43, 180, 0, 253, 28, 29, 21, 4, 183, 0, 254, 182, 0, 80, 87, 43]
abbrev dktX1_propose_0 : List UInt8 := dkwX1_propose_0 ++ dktX1_propose_1
theorem dksX1_propose_0 : cX1_propose.data.toList.drop 0 = dktX1_propose_0 := by decide +kernel
theorem dksX1_propose_1 : cX1_propose.data.toList.drop 24 = dktX1_propose_1 := dk_seg dksX1_propose_0 24 rfl rfl
theorem dX1_propose_0 : decode cX1_propose 0 = .ok (.aload_n 1, 1) := dk_43 (dk_at dksX1_propose_0 0 rfl rfl)
theorem dX1_propose_1 : decode cX1_propose 1 = .ok (.getfield 250, 3) := dk_180 0 250 (dk_at dksX1_propose_0 1 rfl rfl)
theorem dX1_propose_4 : decode cX1_propose 4 = .ok (.new 88, 3) := dk_187 0 88 (dk_at dksX1_propose_0 4 rfl rfl)
theorem dX1_propose_7 : decode cX1_propose 7 = .ok (.dup, 1) := dk_89 (dk_at dksX1_propose_0 7 rfl rfl)
theorem dX1_propose_8 : decode cX1_propose 8 = .ok (.aload_n 1, 1) := dk_43 (dk_at dksX1_propose_0 8 rfl rfl)
theorem dX1_propose_9 : decode cX1_propose 9 = .ok (.getfield 253, 3) := dk_180 0 253 (dk_at dksX1_propose_0 9 rfl rfl)
theorem dX1_propose_12 : decode cX1_propose 12 = .ok (.iload_n 2, 1) := dk_28 (dk_at dksX1_propose_0 12 rfl rfl)
theorem dX1_propose_13 : decode cX1_propose 13 = .ok (.iload_n 3, 1) := dk_29 (dk_at dksX1_propose_0 13 rfl rfl)
theorem dX1_propose_14 : decode cX1_propose 14 = .ok (.iload 4, 2) := dk_21 4 (dk_at dksX1_propose_0 14 rfl rfl)
theorem dX1_propose_16 : decode cX1_propose 16 = .ok (.invokespecial 254, 3) := dk_183 0 254 (dk_at dksX1_propose_0 16 rfl rfl)
theorem dX1_propose_19 : decode cX1_propose 19 = .ok (.invokevirtual 80, 3) := dk_182 0 80 (dk_at dksX1_propose_0 19 rfl rfl)
theorem dX1_propose_22 : decode cX1_propose 22 = .ok (.pop, 1) := dk_87 (dk_at dksX1_propose_0 22 rfl rfl)
theorem dX1_propose_23 : decode cX1_propose 23 = .ok (.aload_n 1, 1) := dk_43 (dk_at dksX1_propose_0 23 rfl rfl)
theorem dX1_propose_24 : decode cX1_propose 24 = .ok (.invokevirtual 257, 3) := dk_182 1 1 (dk_at dksX1_propose_1 0 rfl rfl)
theorem dX1_propose_27 : decode cX1_propose 27 = .ok (.istore 5, 2) := dk_54 5 (dk_at dksX1_propose_1 3 rfl rfl)
theorem dX1_propose_29 : decode cX1_propose 29 = .ok (.aload_n 1, 1) := dk_43 (dk_at dksX1_propose_1 5 rfl rfl)
theorem dX1_propose_30 : decode cX1_propose 30 = .ok (.invokevirtual 260, 3) := dk_182 1 4 (dk_at dksX1_propose_1 6 rfl rfl)
theorem dX1_propose_33 : decode cX1_propose 33 = .ok (.iload 5, 2) := dk_21 5 (dk_at dksX1_propose_1 9 rfl rfl)
theorem dX1_propose_35 : decode cX1_propose 35 = .ok (.ireturn, 1) := dk_172 (dk_at dksX1_propose_1 11 rfl rfl)
abbrev cX1_reshape : ByteArray := prog_1_method_41_code
def yX1_reshape : MethodName := ⟨RX1, "reshape", "(IIZ)I"⟩
def dkwX1_reshape_2 : List UInt8 := [153, 0, 8, 16, 115, 167, 0, 5, 16, 109, 28, 3, 182, 1, 13, 172]
abbrev dktX1_reshape_2 : List UInt8 := dkwX1_reshape_2 ++ []
def dkwX1_reshape_1 : List UInt8 := [25, 4, 182, 1, 1, 16, 80, 162, 0, 7, 4, 167, 0, 4, 3, 184, 0, 116, 42, 25, 4, 29]
abbrev dktX1_reshape_1 : List UInt8 := dkwX1_reshape_1 ++ dktX1_reshape_2
def dkwX1_reshape_0 : List UInt8 := [42, 27, 182, 0, 109, 87, 28, 4, 16, 19, 184, 0, 101, 184, 1, 7, 42, 27, 182, 1, 10, 58, 4]
abbrev dktX1_reshape_0 : List UInt8 := dkwX1_reshape_0 ++ dktX1_reshape_1
theorem dksX1_reshape_0 : cX1_reshape.data.toList.drop 0 = dktX1_reshape_0 := by decide +kernel
theorem dksX1_reshape_1 : cX1_reshape.data.toList.drop 23 = dktX1_reshape_1 := dk_seg dksX1_reshape_0 23 rfl rfl
theorem dksX1_reshape_2 : cX1_reshape.data.toList.drop 45 = dktX1_reshape_2 := dk_seg dksX1_reshape_1 22 rfl rfl
theorem dX1_reshape_0 : decode cX1_reshape 0 = .ok (.aload_n 0, 1) := dk_42 (dk_at dksX1_reshape_0 0 rfl rfl)
theorem dX1_reshape_1 : decode cX1_reshape 1 = .ok (.iload_n 1, 1) := dk_27 (dk_at dksX1_reshape_0 1 rfl rfl)
theorem dX1_reshape_2 : decode cX1_reshape 2 = .ok (.invokevirtual 109, 3) := dk_182 0 109 (dk_at dksX1_reshape_0 2 rfl rfl)
theorem dX1_reshape_5 : decode cX1_reshape 5 = .ok (.pop, 1) := dk_87 (dk_at dksX1_reshape_0 5 rfl rfl)
theorem dX1_reshape_6 : decode cX1_reshape 6 = .ok (.iload_n 2, 1) := dk_28 (dk_at dksX1_reshape_0 6 rfl rfl)
theorem dX1_reshape_7 : decode cX1_reshape 7 = .ok (.iconst 1, 1) := dk_4 (dk_at dksX1_reshape_0 7 rfl rfl)
theorem dX1_reshape_8 : decode cX1_reshape 8 = .ok (.bipush 19, 2) := dk_16 19 (dk_at dksX1_reshape_0 8 rfl rfl)
theorem dX1_reshape_10 : decode cX1_reshape 10 = .ok (.invokestatic 101, 3) := dk_184 0 101 (dk_at dksX1_reshape_0 10 rfl rfl)
theorem dX1_reshape_13 : decode cX1_reshape 13 = .ok (.invokestatic 263, 3) := dk_184 1 7 (dk_at dksX1_reshape_0 13 rfl rfl)
theorem dX1_reshape_16 : decode cX1_reshape 16 = .ok (.aload_n 0, 1) := dk_42 (dk_at dksX1_reshape_0 16 rfl rfl)
theorem dX1_reshape_17 : decode cX1_reshape 17 = .ok (.iload_n 1, 1) := dk_27 (dk_at dksX1_reshape_0 17 rfl rfl)
theorem dX1_reshape_18 : decode cX1_reshape 18 = .ok (.invokevirtual 266, 3) := dk_182 1 10 (dk_at dksX1_reshape_0 18 rfl rfl)
theorem dX1_reshape_21 : decode cX1_reshape 21 = .ok (.astore 4, 2) := dk_58 4 (dk_at dksX1_reshape_0 21 rfl rfl)
theorem dX1_reshape_23 : decode cX1_reshape 23 = .ok (.aload 4, 2) := dk_25 4 (dk_at dksX1_reshape_1 0 rfl rfl)
theorem dX1_reshape_25 : decode cX1_reshape 25 = .ok (.invokevirtual 257, 3) := dk_182 1 1 (dk_at dksX1_reshape_1 2 rfl rfl)
theorem dX1_reshape_28 : decode cX1_reshape 28 = .ok (.bipush 80, 2) := dk_16 80 (dk_at dksX1_reshape_1 5 rfl rfl)
theorem dX1_reshape_30 : decode cX1_reshape 30 = .ok (.if_icmp .ge 7, 3) := dk_162 0 7 (dk_at dksX1_reshape_1 7 rfl rfl)
theorem dX1_reshape_33 : decode cX1_reshape 33 = .ok (.iconst 1, 1) := dk_4 (dk_at dksX1_reshape_1 10 rfl rfl)
theorem dX1_reshape_34 : decode cX1_reshape 34 = .ok (.goto 4, 3) := dk_167 0 4 (dk_at dksX1_reshape_1 11 rfl rfl)
theorem dX1_reshape_37 : decode cX1_reshape 37 = .ok (.iconst 0, 1) := dk_3 (dk_at dksX1_reshape_1 14 rfl rfl)
theorem dX1_reshape_38 : decode cX1_reshape 38 = .ok (.invokestatic 116, 3) := dk_184 0 116 (dk_at dksX1_reshape_1 15 rfl rfl)
theorem dX1_reshape_41 : decode cX1_reshape 41 = .ok (.aload_n 0, 1) := dk_42 (dk_at dksX1_reshape_1 18 rfl rfl)
theorem dX1_reshape_42 : decode cX1_reshape 42 = .ok (.aload 4, 2) := dk_25 4 (dk_at dksX1_reshape_1 19 rfl rfl)
theorem dX1_reshape_44 : decode cX1_reshape 44 = .ok (.iload_n 3, 1) := dk_29 (dk_at dksX1_reshape_1 21 rfl rfl)
theorem dX1_reshape_45 : decode cX1_reshape 45 = .ok (.ifCond .eq 8, 3) := dk_153 0 8 (dk_at dksX1_reshape_2 0 rfl rfl)
theorem dX1_reshape_48 : decode cX1_reshape 48 = .ok (.bipush 115, 2) := dk_16 115 (dk_at dksX1_reshape_2 3 rfl rfl)
theorem dX1_reshape_50 : decode cX1_reshape 50 = .ok (.goto 5, 3) := dk_167 0 5 (dk_at dksX1_reshape_2 5 rfl rfl)
theorem dX1_reshape_53 : decode cX1_reshape 53 = .ok (.bipush 109, 2) := dk_16 109 (dk_at dksX1_reshape_2 8 rfl rfl)
theorem dX1_reshape_55 : decode cX1_reshape 55 = .ok (.iload_n 2, 1) := dk_28 (dk_at dksX1_reshape_2 10 rfl rfl)
theorem dX1_reshape_56 : decode cX1_reshape 56 = .ok (.iconst 0, 1) := dk_3 (dk_at dksX1_reshape_2 11 rfl rfl)
theorem dX1_reshape_57 : decode cX1_reshape 57 = .ok (.invokevirtual 269, 3) := dk_182 1 13 (dk_at dksX1_reshape_2 12 rfl rfl)
theorem dX1_reshape_60 : decode cX1_reshape 60 = .ok (.ireturn, 1) := dk_172 (dk_at dksX1_reshape_2 15 rfl rfl)
abbrev cX1_change : ByteArray := prog_1_method_42_code
def yX1_change : MethodName := ⟨RX1, "change", "(II)I"⟩
def dkwX1_change_6 : List UInt8 := [182, 1, 13, 172]
abbrev dktX1_change_6 : List UInt8 := dkwX1_change_6 ++ []
def dkwX1_change_5 : List UInt8 := [153, 0, 11, 187, 1, 23, 89, 183, 1, 25, 191, 42, 45, 16, 106, 28, 45, 182, 0, 170, 180, 1, 26]
abbrev dktX1_change_5 : List UInt8 := dkwX1_change_5 ++ dktX1_change_6
def dkwX1_change_4 : List UInt8 := [180, 0, 192, 16, 110, 160, 0, 7, 4, 167, 0, 4, 3, 54, 4, 132, 5, 1, 167, 255, 218, 21, 4]
abbrev dktX1_change_4 : List UInt8 := dkwX1_change_4 ++ dktX1_change_5
def dkwX1_change_3 : List UInt8 := [54, 5, 21, 5, 45, 182, 1, 1, 163, 0, 35, 21, 4, 154, 0, 17, 45, 21, 5, 182, 0, 181]
abbrev dktX1_change_3 : List UInt8 := dkwX1_change_3 ++ dktX1_change_4
def dkwX1_change_2 : List UInt8 := [154, 0, 10, 45, 182, 1, 20, 154, 0, 7, 4, 167, 0, 4, 3, 54, 4, 45, 180, 0, 137, 4, 96]
abbrev dktX1_change_2 : List UInt8 := dkwX1_change_2 ++ dktX1_change_3
def dkwX1_change_1 : List UInt8 := [182, 1, 1, 16, 79, 162, 0, 7, 4, 167, 0, 4, 3, 184, 0, 116, 45, 182, 0, 170, 182, 1, 17]
abbrev dktX1_change_1 : List UInt8 := dkwX1_change_1 ++ dktX1_change_2
def dkwX1_change_0 : List UInt8 := [42, 27, 182, 0, 109, 87, 28, 4, 16, 31, 184, 0, 101, 184, 1, 7, 42, 27, 182, 1, 10, 78, 45]
abbrev dktX1_change_0 : List UInt8 := dkwX1_change_0 ++ dktX1_change_1
theorem dksX1_change_0 : cX1_change.data.toList.drop 0 = dktX1_change_0 := by decide +kernel
theorem dksX1_change_1 : cX1_change.data.toList.drop 23 = dktX1_change_1 := dk_seg dksX1_change_0 23 rfl rfl
theorem dksX1_change_2 : cX1_change.data.toList.drop 46 = dktX1_change_2 := dk_seg dksX1_change_1 23 rfl rfl
theorem dksX1_change_3 : cX1_change.data.toList.drop 69 = dktX1_change_3 := dk_seg dksX1_change_2 23 rfl rfl
theorem dksX1_change_4 : cX1_change.data.toList.drop 91 = dktX1_change_4 := dk_seg dksX1_change_3 22 rfl rfl
theorem dksX1_change_5 : cX1_change.data.toList.drop 114 = dktX1_change_5 := dk_seg dksX1_change_4 23 rfl rfl
theorem dksX1_change_6 : cX1_change.data.toList.drop 137 = dktX1_change_6 := dk_seg dksX1_change_5 23 rfl rfl
theorem dX1_change_0 : decode cX1_change 0 = .ok (.aload_n 0, 1) := dk_42 (dk_at dksX1_change_0 0 rfl rfl)
theorem dX1_change_1 : decode cX1_change 1 = .ok (.iload_n 1, 1) := dk_27 (dk_at dksX1_change_0 1 rfl rfl)
theorem dX1_change_2 : decode cX1_change 2 = .ok (.invokevirtual 109, 3) := dk_182 0 109 (dk_at dksX1_change_0 2 rfl rfl)
theorem dX1_change_5 : decode cX1_change 5 = .ok (.pop, 1) := dk_87 (dk_at dksX1_change_0 5 rfl rfl)
theorem dX1_change_6 : decode cX1_change 6 = .ok (.iload_n 2, 1) := dk_28 (dk_at dksX1_change_0 6 rfl rfl)
theorem dX1_change_7 : decode cX1_change 7 = .ok (.iconst 1, 1) := dk_4 (dk_at dksX1_change_0 7 rfl rfl)
theorem dX1_change_8 : decode cX1_change 8 = .ok (.bipush 31, 2) := dk_16 31 (dk_at dksX1_change_0 8 rfl rfl)
theorem dX1_change_10 : decode cX1_change 10 = .ok (.invokestatic 101, 3) := dk_184 0 101 (dk_at dksX1_change_0 10 rfl rfl)
theorem dX1_change_13 : decode cX1_change 13 = .ok (.invokestatic 263, 3) := dk_184 1 7 (dk_at dksX1_change_0 13 rfl rfl)
theorem dX1_change_16 : decode cX1_change 16 = .ok (.aload_n 0, 1) := dk_42 (dk_at dksX1_change_0 16 rfl rfl)
theorem dX1_change_17 : decode cX1_change 17 = .ok (.iload_n 1, 1) := dk_27 (dk_at dksX1_change_0 17 rfl rfl)
theorem dX1_change_18 : decode cX1_change 18 = .ok (.invokevirtual 266, 3) := dk_182 1 10 (dk_at dksX1_change_0 18 rfl rfl)
theorem dX1_change_21 : decode cX1_change 21 = .ok (.astore_n 3, 1) := dk_78 (dk_at dksX1_change_0 21 rfl rfl)
theorem dX1_change_22 : decode cX1_change 22 = .ok (.aload_n 3, 1) := dk_45 (dk_at dksX1_change_0 22 rfl rfl)
theorem dX1_change_23 : decode cX1_change 23 = .ok (.invokevirtual 257, 3) := dk_182 1 1 (dk_at dksX1_change_1 0 rfl rfl)
theorem dX1_change_26 : decode cX1_change 26 = .ok (.bipush 79, 2) := dk_16 79 (dk_at dksX1_change_1 3 rfl rfl)
theorem dX1_change_28 : decode cX1_change 28 = .ok (.if_icmp .ge 7, 3) := dk_162 0 7 (dk_at dksX1_change_1 5 rfl rfl)
theorem dX1_change_31 : decode cX1_change 31 = .ok (.iconst 1, 1) := dk_4 (dk_at dksX1_change_1 8 rfl rfl)
theorem dX1_change_32 : decode cX1_change 32 = .ok (.goto 4, 3) := dk_167 0 4 (dk_at dksX1_change_1 9 rfl rfl)
theorem dX1_change_35 : decode cX1_change 35 = .ok (.iconst 0, 1) := dk_3 (dk_at dksX1_change_1 12 rfl rfl)
theorem dX1_change_36 : decode cX1_change 36 = .ok (.invokestatic 116, 3) := dk_184 0 116 (dk_at dksX1_change_1 13 rfl rfl)
theorem dX1_change_39 : decode cX1_change 39 = .ok (.aload_n 3, 1) := dk_45 (dk_at dksX1_change_1 16 rfl rfl)
theorem dX1_change_40 : decode cX1_change 40 = .ok (.invokevirtual 170, 3) := dk_182 0 170 (dk_at dksX1_change_1 17 rfl rfl)
theorem dX1_change_43 : decode cX1_change 43 = .ok (.invokevirtual 273, 3) := dk_182 1 17 (dk_at dksX1_change_1 20 rfl rfl)
theorem dX1_change_46 : decode cX1_change 46 = .ok (.ifCond .ne 10, 3) := dk_154 0 10 (dk_at dksX1_change_2 0 rfl rfl)
theorem dX1_change_49 : decode cX1_change 49 = .ok (.aload_n 3, 1) := dk_45 (dk_at dksX1_change_2 3 rfl rfl)
theorem dX1_change_50 : decode cX1_change 50 = .ok (.invokevirtual 276, 3) := dk_182 1 20 (dk_at dksX1_change_2 4 rfl rfl)
theorem dX1_change_53 : decode cX1_change 53 = .ok (.ifCond .ne 7, 3) := dk_154 0 7 (dk_at dksX1_change_2 7 rfl rfl)
theorem dX1_change_56 : decode cX1_change 56 = .ok (.iconst 1, 1) := dk_4 (dk_at dksX1_change_2 10 rfl rfl)
theorem dX1_change_57 : decode cX1_change 57 = .ok (.goto 4, 3) := dk_167 0 4 (dk_at dksX1_change_2 11 rfl rfl)
theorem dX1_change_60 : decode cX1_change 60 = .ok (.iconst 0, 1) := dk_3 (dk_at dksX1_change_2 14 rfl rfl)
theorem dX1_change_61 : decode cX1_change 61 = .ok (.istore 4, 2) := dk_54 4 (dk_at dksX1_change_2 15 rfl rfl)
theorem dX1_change_63 : decode cX1_change 63 = .ok (.aload_n 3, 1) := dk_45 (dk_at dksX1_change_2 17 rfl rfl)
theorem dX1_change_64 : decode cX1_change 64 = .ok (.getfield 137, 3) := dk_180 0 137 (dk_at dksX1_change_2 18 rfl rfl)
theorem dX1_change_67 : decode cX1_change 67 = .ok (.iconst 1, 1) := dk_4 (dk_at dksX1_change_2 21 rfl rfl)
theorem dX1_change_68 : decode cX1_change 68 = .ok (.iadd, 1) := dk_96 (dk_at dksX1_change_2 22 rfl rfl)
theorem dX1_change_69 : decode cX1_change 69 = .ok (.istore 5, 2) := dk_54 5 (dk_at dksX1_change_3 0 rfl rfl)
theorem dX1_change_71 : decode cX1_change 71 = .ok (.iload 5, 2) := dk_21 5 (dk_at dksX1_change_3 2 rfl rfl)
theorem dX1_change_73 : decode cX1_change 73 = .ok (.aload_n 3, 1) := dk_45 (dk_at dksX1_change_3 4 rfl rfl)
theorem dX1_change_74 : decode cX1_change 74 = .ok (.invokevirtual 257, 3) := dk_182 1 1 (dk_at dksX1_change_3 5 rfl rfl)
theorem dX1_change_77 : decode cX1_change 77 = .ok (.if_icmp .gt 35, 3) := dk_163 0 35 (dk_at dksX1_change_3 8 rfl rfl)
theorem dX1_change_80 : decode cX1_change 80 = .ok (.iload 4, 2) := dk_21 4 (dk_at dksX1_change_3 11 rfl rfl)
theorem dX1_change_82 : decode cX1_change 82 = .ok (.ifCond .ne 17, 3) := dk_154 0 17 (dk_at dksX1_change_3 13 rfl rfl)
theorem dX1_change_85 : decode cX1_change 85 = .ok (.aload_n 3, 1) := dk_45 (dk_at dksX1_change_3 16 rfl rfl)
theorem dX1_change_86 : decode cX1_change 86 = .ok (.iload 5, 2) := dk_21 5 (dk_at dksX1_change_3 17 rfl rfl)
theorem dX1_change_88 : decode cX1_change 88 = .ok (.invokevirtual 181, 3) := dk_182 0 181 (dk_at dksX1_change_3 19 rfl rfl)
theorem dX1_change_91 : decode cX1_change 91 = .ok (.getfield 192, 3) := dk_180 0 192 (dk_at dksX1_change_4 0 rfl rfl)
theorem dX1_change_94 : decode cX1_change 94 = .ok (.bipush 110, 2) := dk_16 110 (dk_at dksX1_change_4 3 rfl rfl)
theorem dX1_change_96 : decode cX1_change 96 = .ok (.if_icmp .ne 7, 3) := dk_160 0 7 (dk_at dksX1_change_4 5 rfl rfl)
theorem dX1_change_99 : decode cX1_change 99 = .ok (.iconst 1, 1) := dk_4 (dk_at dksX1_change_4 8 rfl rfl)
theorem dX1_change_100 : decode cX1_change 100 = .ok (.goto 4, 3) := dk_167 0 4 (dk_at dksX1_change_4 9 rfl rfl)
theorem dX1_change_103 : decode cX1_change 103 = .ok (.iconst 0, 1) := dk_3 (dk_at dksX1_change_4 12 rfl rfl)
theorem dX1_change_104 : decode cX1_change 104 = .ok (.istore 4, 2) := dk_54 4 (dk_at dksX1_change_4 13 rfl rfl)
theorem dX1_change_106 : decode cX1_change 106 = .ok (.iinc 5 1, 3) := dk_132 5 1 (dk_at dksX1_change_4 15 rfl rfl)
theorem dX1_change_109 : decode cX1_change 109 = .ok (.goto (-38), 3) := dk_167 255 218 (dk_at dksX1_change_4 18 rfl rfl)
theorem dX1_change_112 : decode cX1_change 112 = .ok (.iload 4, 2) := dk_21 4 (dk_at dksX1_change_4 21 rfl rfl)
theorem dX1_change_114 : decode cX1_change 114 = .ok (.ifCond .eq 11, 3) := dk_153 0 11 (dk_at dksX1_change_5 0 rfl rfl)
theorem dX1_change_117 : decode cX1_change 117 = .ok (.new 279, 3) := dk_187 1 23 (dk_at dksX1_change_5 3 rfl rfl)
theorem dX1_change_120 : decode cX1_change 120 = .ok (.dup, 1) := dk_89 (dk_at dksX1_change_5 6 rfl rfl)
theorem dX1_change_121 : decode cX1_change 121 = .ok (.invokespecial 281, 3) := dk_183 1 25 (dk_at dksX1_change_5 7 rfl rfl)
theorem dX1_change_124 : decode cX1_change 124 = .ok (.athrow, 1) := dk_191 (dk_at dksX1_change_5 10 rfl rfl)
theorem dX1_change_125 : decode cX1_change 125 = .ok (.aload_n 0, 1) := dk_42 (dk_at dksX1_change_5 11 rfl rfl)
theorem dX1_change_126 : decode cX1_change 126 = .ok (.aload_n 3, 1) := dk_45 (dk_at dksX1_change_5 12 rfl rfl)
theorem dX1_change_127 : decode cX1_change 127 = .ok (.bipush 106, 2) := dk_16 106 (dk_at dksX1_change_5 13 rfl rfl)
theorem dX1_change_129 : decode cX1_change 129 = .ok (.iload_n 2, 1) := dk_28 (dk_at dksX1_change_5 15 rfl rfl)
theorem dX1_change_130 : decode cX1_change 130 = .ok (.aload_n 3, 1) := dk_45 (dk_at dksX1_change_5 16 rfl rfl)
theorem dX1_change_131 : decode cX1_change 131 = .ok (.invokevirtual 170, 3) := dk_182 0 170 (dk_at dksX1_change_5 17 rfl rfl)
theorem dX1_change_134 : decode cX1_change 134 = .ok (.getfield 282, 3) := dk_180 1 26 (dk_at dksX1_change_5 20 rfl rfl)
theorem dX1_change_137 : decode cX1_change 137 = .ok (.invokevirtual 269, 3) := dk_182 1 13 (dk_at dksX1_change_6 0 rfl rfl)
theorem dX1_change_140 : decode cX1_change 140 = .ok (.ireturn, 1) := dk_172 (dk_at dksX1_change_6 3 rfl rfl)
abbrev cX1_hasLease : ByteArray := prog_1_method_44_code
def yX1_hasLease : MethodName := ⟨RX1, "hasLease", "(I)Z"⟩
def dkwX1_hasLease_0 : List UInt8 := [42, 27, 182, 0, 109, 182, 1, 29, 172]
abbrev dktX1_hasLease_0 : List UInt8 := dkwX1_hasLease_0 ++ []
theorem dksX1_hasLease_0 : cX1_hasLease.data.toList.drop 0 = dktX1_hasLease_0 := by decide +kernel
theorem dX1_hasLease_0 : decode cX1_hasLease 0 = .ok (.aload_n 0, 1) := dk_42 (dk_at dksX1_hasLease_0 0 rfl rfl)
theorem dX1_hasLease_1 : decode cX1_hasLease 1 = .ok (.iload_n 1, 1) := dk_27 (dk_at dksX1_hasLease_0 1 rfl rfl)
theorem dX1_hasLease_2 : decode cX1_hasLease 2 = .ok (.invokevirtual 109, 3) := dk_182 0 109 (dk_at dksX1_hasLease_0 2 rfl rfl)
theorem dX1_hasLease_5 : decode cX1_hasLease 5 = .ok (.invokevirtual 285, 3) := dk_182 1 29 (dk_at dksX1_hasLease_0 5 rfl rfl)
theorem dX1_hasLease_8 : decode cX1_hasLease 8 = .ok (.ireturn, 1) := dk_172 (dk_at dksX1_hasLease_0 8 rfl rfl)
abbrev cX1_readByLease : ByteArray := prog_1_method_45_code
def yX1_readByLease : MethodName := ⟨RX1, "readByLease", "(II)I"⟩
def dkwX1_readByLease_2 : List UInt8 := [181, 0, 56, 45, 180, 1, 36, 180, 1, 40, 28, 46, 172]
abbrev dktX1_readByLease_2 : List UInt8 := dkwX1_readByLease_2 ++ []
def dkwX1_readByLease_1 : List UInt8 := [153, 0, 21, 45, 180, 0, 137, 42, 180, 0, 49, 182, 0, 76, 160, 0, 7, 4, 167, 0, 4, 3]
abbrev dktX1_readByLease_1 : List UInt8 := dkwX1_readByLease_1 ++ dktX1_readByLease_2
def dkwX1_readByLease_0 : List UInt8 := [42, 27, 182, 0, 109, 78, 28, 184, 1, 32, 45, 182, 1, 29, 184, 0, 116, 42, 42, 180, 0, 56]
abbrev dktX1_readByLease_0 : List UInt8 := dkwX1_readByLease_0 ++ dktX1_readByLease_1
theorem dksX1_readByLease_0 : cX1_readByLease.data.toList.drop 0 = dktX1_readByLease_0 := by decide +kernel
theorem dksX1_readByLease_1 : cX1_readByLease.data.toList.drop 22 = dktX1_readByLease_1 := dk_seg dksX1_readByLease_0 22 rfl rfl
theorem dksX1_readByLease_2 : cX1_readByLease.data.toList.drop 44 = dktX1_readByLease_2 := dk_seg dksX1_readByLease_1 22 rfl rfl
theorem dX1_readByLease_0 : decode cX1_readByLease 0 = .ok (.aload_n 0, 1) := dk_42 (dk_at dksX1_readByLease_0 0 rfl rfl)
theorem dX1_readByLease_1 : decode cX1_readByLease 1 = .ok (.iload_n 1, 1) := dk_27 (dk_at dksX1_readByLease_0 1 rfl rfl)
theorem dX1_readByLease_2 : decode cX1_readByLease 2 = .ok (.invokevirtual 109, 3) := dk_182 0 109 (dk_at dksX1_readByLease_0 2 rfl rfl)
theorem dX1_readByLease_5 : decode cX1_readByLease 5 = .ok (.astore_n 3, 1) := dk_78 (dk_at dksX1_readByLease_0 5 rfl rfl)
theorem dX1_readByLease_6 : decode cX1_readByLease 6 = .ok (.iload_n 2, 1) := dk_28 (dk_at dksX1_readByLease_0 6 rfl rfl)
theorem dX1_readByLease_7 : decode cX1_readByLease 7 = .ok (.invokestatic 288, 3) := dk_184 1 32 (dk_at dksX1_readByLease_0 7 rfl rfl)
theorem dX1_readByLease_10 : decode cX1_readByLease 10 = .ok (.aload_n 3, 1) := dk_45 (dk_at dksX1_readByLease_0 10 rfl rfl)
theorem dX1_readByLease_11 : decode cX1_readByLease 11 = .ok (.invokevirtual 285, 3) := dk_182 1 29 (dk_at dksX1_readByLease_0 11 rfl rfl)
theorem dX1_readByLease_14 : decode cX1_readByLease 14 = .ok (.invokestatic 116, 3) := dk_184 0 116 (dk_at dksX1_readByLease_0 14 rfl rfl)
theorem dX1_readByLease_17 : decode cX1_readByLease 17 = .ok (.aload_n 0, 1) := dk_42 (dk_at dksX1_readByLease_0 17 rfl rfl)
theorem dX1_readByLease_18 : decode cX1_readByLease 18 = .ok (.aload_n 0, 1) := dk_42 (dk_at dksX1_readByLease_0 18 rfl rfl)
theorem dX1_readByLease_19 : decode cX1_readByLease 19 = .ok (.getfield 56, 3) := dk_180 0 56 (dk_at dksX1_readByLease_0 19 rfl rfl)
theorem dX1_readByLease_22 : decode cX1_readByLease 22 = .ok (.ifCond .eq 21, 3) := dk_153 0 21 (dk_at dksX1_readByLease_1 0 rfl rfl)
theorem dX1_readByLease_25 : decode cX1_readByLease 25 = .ok (.aload_n 3, 1) := dk_45 (dk_at dksX1_readByLease_1 3 rfl rfl)
theorem dX1_readByLease_26 : decode cX1_readByLease 26 = .ok (.getfield 137, 3) := dk_180 0 137 (dk_at dksX1_readByLease_1 4 rfl rfl)
theorem dX1_readByLease_29 : decode cX1_readByLease 29 = .ok (.aload_n 0, 1) := dk_42 (dk_at dksX1_readByLease_1 7 rfl rfl)
theorem dX1_readByLease_30 : decode cX1_readByLease 30 = .ok (.getfield 49, 3) := dk_180 0 49 (dk_at dksX1_readByLease_1 8 rfl rfl)
theorem dX1_readByLease_33 : decode cX1_readByLease 33 = .ok (.invokevirtual 76, 3) := dk_182 0 76 (dk_at dksX1_readByLease_1 11 rfl rfl)
theorem dX1_readByLease_36 : decode cX1_readByLease 36 = .ok (.if_icmp .ne 7, 3) := dk_160 0 7 (dk_at dksX1_readByLease_1 14 rfl rfl)
theorem dX1_readByLease_39 : decode cX1_readByLease 39 = .ok (.iconst 1, 1) := dk_4 (dk_at dksX1_readByLease_1 17 rfl rfl)
theorem dX1_readByLease_40 : decode cX1_readByLease 40 = .ok (.goto 4, 3) := dk_167 0 4 (dk_at dksX1_readByLease_1 18 rfl rfl)
theorem dX1_readByLease_43 : decode cX1_readByLease 43 = .ok (.iconst 0, 1) := dk_3 (dk_at dksX1_readByLease_1 21 rfl rfl)
theorem dX1_readByLease_44 : decode cX1_readByLease 44 = .ok (.putfield 56, 3) := dk_181 0 56 (dk_at dksX1_readByLease_2 0 rfl rfl)
theorem dX1_readByLease_47 : decode cX1_readByLease 47 = .ok (.aload_n 3, 1) := dk_45 (dk_at dksX1_readByLease_2 3 rfl rfl)
theorem dX1_readByLease_48 : decode cX1_readByLease 48 = .ok (.getfield 292, 3) := dk_180 1 36 (dk_at dksX1_readByLease_2 4 rfl rfl)
theorem dX1_readByLease_51 : decode cX1_readByLease 51 = .ok (.getfield 296, 3) := dk_180 1 40 (dk_at dksX1_readByLease_2 7 rfl rfl)
theorem dX1_readByLease_54 : decode cX1_readByLease 54 = .ok (.iload_n 2, 1) := dk_28 (dk_at dksX1_readByLease_2 10 rfl rfl)
theorem dX1_readByLease_55 : decode cX1_readByLease 55 = .ok (.iaload, 1) := dk_46 (dk_at dksX1_readByLease_2 11 rfl rfl)
theorem dX1_readByLease_56 : decode cX1_readByLease 56 = .ok (.ireturn, 1) := dk_172 (dk_at dksX1_readByLease_2 12 rfl rfl)
abbrev cX1_requireKey : ByteArray := prog_1_method_43_code
def yX1_requireKey : MethodName := ⟨RX1, "requireKey", "(I)V"⟩
def dkwX1_requireKey_0 : List UInt8 := [26, 3, 16, 19, 184, 0, 101, 184, 1, 7, 177]
abbrev dktX1_requireKey_0 : List UInt8 := dkwX1_requireKey_0 ++ []
theorem dksX1_requireKey_0 : cX1_requireKey.data.toList.drop 0 = dktX1_requireKey_0 := by decide +kernel
theorem dX1_requireKey_0 : decode cX1_requireKey 0 = .ok (.iload_n 0, 1) := dk_26 (dk_at dksX1_requireKey_0 0 rfl rfl)
theorem dX1_requireKey_1 : decode cX1_requireKey 1 = .ok (.iconst 0, 1) := dk_3 (dk_at dksX1_requireKey_0 1 rfl rfl)
theorem dX1_requireKey_2 : decode cX1_requireKey 2 = .ok (.bipush 19, 2) := dk_16 19 (dk_at dksX1_requireKey_0 2 rfl rfl)
theorem dX1_requireKey_4 : decode cX1_requireKey 4 = .ok (.invokestatic 101, 3) := dk_184 0 101 (dk_at dksX1_requireKey_0 4 rfl rfl)
theorem dX1_requireKey_7 : decode cX1_requireKey 7 = .ok (.invokestatic 263, 3) := dk_184 1 7 (dk_at dksX1_requireKey_0 7 rfl rfl)
theorem dX1_requireKey_10 : decode cX1_requireKey 10 = .ok (.return_, 1) := dk_177 (dk_at dksX1_requireKey_0 10 rfl rfl)
abbrev cX1_askRead : ByteArray := prog_1_method_46_code
def yX1_askRead : MethodName := ⟨RX1, "askRead", "(II)I"⟩
def dkwX1_askRead_6 : List UInt8 := [182, 0, 76, 4, 100, 172]
abbrev dktX1_askRead_6 : List UInt8 := dkwX1_askRead_6 ++ []
def dkwX1_askRead_5 : List UInt8 := [96, 28, 42, 180, 0, 49, 182, 0, 76, 183, 1, 54, 182, 0, 80, 87, 45, 182, 1, 4, 42, 180, 0, 46]
abbrev dktX1_askRead_5 : List UInt8 := dkwX1_askRead_5 ++ dktX1_askRead_6
def dkwX1_askRead_4 : List UInt8 := [184, 0, 116, 42, 180, 0, 46, 187, 1, 46, 89, 27, 45, 180, 0, 253, 45, 180, 1, 51, 182, 0, 76, 4]
abbrev dktX1_askRead_4 : List UInt8 := dkwX1_askRead_4 ++ dktX1_askRead_5
def dkwX1_askRead_3 : List UInt8 := [54, 4, 167, 255, 214, 45, 182, 1, 20, 153, 0, 14, 21, 4, 16, 12, 162, 0, 7, 4, 167, 0, 4, 3]
abbrev dktX1_askRead_3 : List UInt8 := dkwX1_askRead_3 ++ dktX1_askRead_4
def dkwX1_askRead_2 : List UInt8 := [192, 1, 46, 58, 6, 21, 4, 25, 6, 180, 1, 48, 16, 119, 160, 0, 7, 4, 167, 0, 4, 3, 96]
abbrev dktX1_askRead_2 : List UInt8 := dkwX1_askRead_2 ++ dktX1_askRead_3
def dkwX1_askRead_1 : List UInt8 := [182, 0, 195, 58, 5, 25, 5, 185, 0, 199, 1, 0, 153, 0, 38, 25, 5, 185, 0, 205, 1, 0]
abbrev dktX1_askRead_1 : List UInt8 := dkwX1_askRead_1 ++ dktX1_askRead_2
def dkwX1_askRead_0 : List UInt8 := [42, 27, 182, 0, 109, 87, 28, 184, 1, 32, 42, 27, 182, 1, 10, 78, 3, 54, 4, 42, 180, 0, 46]
abbrev dktX1_askRead_0 : List UInt8 := dkwX1_askRead_0 ++ dktX1_askRead_1
theorem dksX1_askRead_0 : cX1_askRead.data.toList.drop 0 = dktX1_askRead_0 := by decide +kernel
theorem dksX1_askRead_1 : cX1_askRead.data.toList.drop 23 = dktX1_askRead_1 := dk_seg dksX1_askRead_0 23 rfl rfl
theorem dksX1_askRead_2 : cX1_askRead.data.toList.drop 45 = dktX1_askRead_2 := dk_seg dksX1_askRead_1 22 rfl rfl
theorem dksX1_askRead_3 : cX1_askRead.data.toList.drop 68 = dktX1_askRead_3 := dk_seg dksX1_askRead_2 23 rfl rfl
theorem dksX1_askRead_4 : cX1_askRead.data.toList.drop 92 = dktX1_askRead_4 := dk_seg dksX1_askRead_3 24 rfl rfl
theorem dksX1_askRead_5 : cX1_askRead.data.toList.drop 116 = dktX1_askRead_5 := dk_seg dksX1_askRead_4 24 rfl rfl
theorem dksX1_askRead_6 : cX1_askRead.data.toList.drop 140 = dktX1_askRead_6 := dk_seg dksX1_askRead_5 24 rfl rfl
theorem dX1_askRead_0 : decode cX1_askRead 0 = .ok (.aload_n 0, 1) := dk_42 (dk_at dksX1_askRead_0 0 rfl rfl)
theorem dX1_askRead_1 : decode cX1_askRead 1 = .ok (.iload_n 1, 1) := dk_27 (dk_at dksX1_askRead_0 1 rfl rfl)
theorem dX1_askRead_2 : decode cX1_askRead 2 = .ok (.invokevirtual 109, 3) := dk_182 0 109 (dk_at dksX1_askRead_0 2 rfl rfl)
theorem dX1_askRead_5 : decode cX1_askRead 5 = .ok (.pop, 1) := dk_87 (dk_at dksX1_askRead_0 5 rfl rfl)
theorem dX1_askRead_6 : decode cX1_askRead 6 = .ok (.iload_n 2, 1) := dk_28 (dk_at dksX1_askRead_0 6 rfl rfl)
theorem dX1_askRead_7 : decode cX1_askRead 7 = .ok (.invokestatic 288, 3) := dk_184 1 32 (dk_at dksX1_askRead_0 7 rfl rfl)
theorem dX1_askRead_10 : decode cX1_askRead 10 = .ok (.aload_n 0, 1) := dk_42 (dk_at dksX1_askRead_0 10 rfl rfl)
theorem dX1_askRead_11 : decode cX1_askRead 11 = .ok (.iload_n 1, 1) := dk_27 (dk_at dksX1_askRead_0 11 rfl rfl)
theorem dX1_askRead_12 : decode cX1_askRead 12 = .ok (.invokevirtual 266, 3) := dk_182 1 10 (dk_at dksX1_askRead_0 12 rfl rfl)
theorem dX1_askRead_15 : decode cX1_askRead 15 = .ok (.astore_n 3, 1) := dk_78 (dk_at dksX1_askRead_0 15 rfl rfl)
theorem dX1_askRead_16 : decode cX1_askRead 16 = .ok (.iconst 0, 1) := dk_3 (dk_at dksX1_askRead_0 16 rfl rfl)
theorem dX1_askRead_17 : decode cX1_askRead 17 = .ok (.istore 4, 2) := dk_54 4 (dk_at dksX1_askRead_0 17 rfl rfl)
theorem dX1_askRead_19 : decode cX1_askRead 19 = .ok (.aload_n 0, 1) := dk_42 (dk_at dksX1_askRead_0 19 rfl rfl)
theorem dX1_askRead_20 : decode cX1_askRead 20 = .ok (.getfield 46, 3) := dk_180 0 46 (dk_at dksX1_askRead_0 20 rfl rfl)
theorem dX1_askRead_23 : decode cX1_askRead 23 = .ok (.invokevirtual 195, 3) := dk_182 0 195 (dk_at dksX1_askRead_1 0 rfl rfl)
theorem dX1_askRead_26 : decode cX1_askRead 26 = .ok (.astore 5, 2) := dk_58 5 (dk_at dksX1_askRead_1 3 rfl rfl)
theorem dX1_askRead_28 : decode cX1_askRead 28 = .ok (.aload 5, 2) := dk_25 5 (dk_at dksX1_askRead_1 5 rfl rfl)
theorem dX1_askRead_30 : decode cX1_askRead 30 = .ok (.invokeinterface 199 1, 5) := by decide +kernel
theorem dX1_askRead_35 : decode cX1_askRead 35 = .ok (.ifCond .eq 38, 3) := dk_153 0 38 (dk_at dksX1_askRead_1 12 rfl rfl)
theorem dX1_askRead_38 : decode cX1_askRead 38 = .ok (.aload 5, 2) := dk_25 5 (dk_at dksX1_askRead_1 15 rfl rfl)
theorem dX1_askRead_40 : decode cX1_askRead 40 = .ok (.invokeinterface 205 1, 5) := by decide +kernel
theorem dX1_askRead_45 : decode cX1_askRead 45 = .ok (.checkcast 302, 3) := dk_192 1 46 (dk_at dksX1_askRead_2 0 rfl rfl)
theorem dX1_askRead_48 : decode cX1_askRead 48 = .ok (.astore 6, 2) := dk_58 6 (dk_at dksX1_askRead_2 3 rfl rfl)
theorem dX1_askRead_50 : decode cX1_askRead 50 = .ok (.iload 4, 2) := dk_21 4 (dk_at dksX1_askRead_2 5 rfl rfl)
theorem dX1_askRead_52 : decode cX1_askRead 52 = .ok (.aload 6, 2) := dk_25 6 (dk_at dksX1_askRead_2 7 rfl rfl)
theorem dX1_askRead_54 : decode cX1_askRead 54 = .ok (.getfield 304, 3) := dk_180 1 48 (dk_at dksX1_askRead_2 9 rfl rfl)
theorem dX1_askRead_57 : decode cX1_askRead 57 = .ok (.bipush 119, 2) := dk_16 119 (dk_at dksX1_askRead_2 12 rfl rfl)
theorem dX1_askRead_59 : decode cX1_askRead 59 = .ok (.if_icmp .ne 7, 3) := dk_160 0 7 (dk_at dksX1_askRead_2 14 rfl rfl)
theorem dX1_askRead_62 : decode cX1_askRead 62 = .ok (.iconst 1, 1) := dk_4 (dk_at dksX1_askRead_2 17 rfl rfl)
theorem dX1_askRead_63 : decode cX1_askRead 63 = .ok (.goto 4, 3) := dk_167 0 4 (dk_at dksX1_askRead_2 18 rfl rfl)
theorem dX1_askRead_66 : decode cX1_askRead 66 = .ok (.iconst 0, 1) := dk_3 (dk_at dksX1_askRead_2 21 rfl rfl)
theorem dX1_askRead_67 : decode cX1_askRead 67 = .ok (.iadd, 1) := dk_96 (dk_at dksX1_askRead_2 22 rfl rfl)
theorem dX1_askRead_68 : decode cX1_askRead 68 = .ok (.istore 4, 2) := dk_54 4 (dk_at dksX1_askRead_3 0 rfl rfl)
theorem dX1_askRead_70 : decode cX1_askRead 70 = .ok (.goto (-42), 3) := dk_167 255 214 (dk_at dksX1_askRead_3 2 rfl rfl)
theorem dX1_askRead_73 : decode cX1_askRead 73 = .ok (.aload_n 3, 1) := dk_45 (dk_at dksX1_askRead_3 5 rfl rfl)
theorem dX1_askRead_74 : decode cX1_askRead 74 = .ok (.invokevirtual 276, 3) := dk_182 1 20 (dk_at dksX1_askRead_3 6 rfl rfl)
theorem dX1_askRead_77 : decode cX1_askRead 77 = .ok (.ifCond .eq 14, 3) := dk_153 0 14 (dk_at dksX1_askRead_3 9 rfl rfl)
theorem dX1_askRead_80 : decode cX1_askRead 80 = .ok (.iload 4, 2) := dk_21 4 (dk_at dksX1_askRead_3 12 rfl rfl)
theorem dX1_askRead_82 : decode cX1_askRead 82 = .ok (.bipush 12, 2) := dk_16 12 (dk_at dksX1_askRead_3 14 rfl rfl)
theorem dX1_askRead_84 : decode cX1_askRead 84 = .ok (.if_icmp .ge 7, 3) := dk_162 0 7 (dk_at dksX1_askRead_3 16 rfl rfl)
theorem dX1_askRead_87 : decode cX1_askRead 87 = .ok (.iconst 1, 1) := dk_4 (dk_at dksX1_askRead_3 19 rfl rfl)
theorem dX1_askRead_88 : decode cX1_askRead 88 = .ok (.goto 4, 3) := dk_167 0 4 (dk_at dksX1_askRead_3 20 rfl rfl)
theorem dX1_askRead_91 : decode cX1_askRead 91 = .ok (.iconst 0, 1) := dk_3 (dk_at dksX1_askRead_3 23 rfl rfl)
theorem dX1_askRead_92 : decode cX1_askRead 92 = .ok (.invokestatic 116, 3) := dk_184 0 116 (dk_at dksX1_askRead_4 0 rfl rfl)
theorem dX1_askRead_95 : decode cX1_askRead 95 = .ok (.aload_n 0, 1) := dk_42 (dk_at dksX1_askRead_4 3 rfl rfl)
theorem dX1_askRead_96 : decode cX1_askRead 96 = .ok (.getfield 46, 3) := dk_180 0 46 (dk_at dksX1_askRead_4 4 rfl rfl)
theorem dX1_askRead_99 : decode cX1_askRead 99 = .ok (.new 302, 3) := dk_187 1 46 (dk_at dksX1_askRead_4 7 rfl rfl)
theorem dX1_askRead_102 : decode cX1_askRead 102 = .ok (.dup, 1) := dk_89 (dk_at dksX1_askRead_4 10 rfl rfl)
theorem dX1_askRead_103 : decode cX1_askRead 103 = .ok (.iload_n 1, 1) := dk_27 (dk_at dksX1_askRead_4 11 rfl rfl)
theorem dX1_askRead_104 : decode cX1_askRead 104 = .ok (.aload_n 3, 1) := dk_45 (dk_at dksX1_askRead_4 12 rfl rfl)
theorem dX1_askRead_105 : decode cX1_askRead 105 = .ok (.getfield 253, 3) := dk_180 0 253 (dk_at dksX1_askRead_4 13 rfl rfl)
theorem dX1_askRead_108 : decode cX1_askRead 108 = .ok (.aload_n 3, 1) := dk_45 (dk_at dksX1_askRead_4 16 rfl rfl)
theorem dX1_askRead_109 : decode cX1_askRead 109 = .ok (.getfield 307, 3) := dk_180 1 51 (dk_at dksX1_askRead_4 17 rfl rfl)
theorem dX1_askRead_112 : decode cX1_askRead 112 = .ok (.invokevirtual 76, 3) := dk_182 0 76 (dk_at dksX1_askRead_4 20 rfl rfl)
theorem dX1_askRead_115 : decode cX1_askRead 115 = .ok (.iconst 1, 1) := dk_4 (dk_at dksX1_askRead_4 23 rfl rfl)
theorem dX1_askRead_116 : decode cX1_askRead 116 = .ok (.iadd, 1) := dk_96 (dk_at dksX1_askRead_5 0 rfl rfl)
theorem dX1_askRead_117 : decode cX1_askRead 117 = .ok (.iload_n 2, 1) := dk_28 (dk_at dksX1_askRead_5 1 rfl rfl)
theorem dX1_askRead_118 : decode cX1_askRead 118 = .ok (.aload_n 0, 1) := dk_42 (dk_at dksX1_askRead_5 2 rfl rfl)
theorem dX1_askRead_119 : decode cX1_askRead 119 = .ok (.getfield 49, 3) := dk_180 0 49 (dk_at dksX1_askRead_5 3 rfl rfl)
theorem dX1_askRead_122 : decode cX1_askRead 122 = .ok (.invokevirtual 76, 3) := dk_182 0 76 (dk_at dksX1_askRead_5 6 rfl rfl)
theorem dX1_askRead_125 : decode cX1_askRead 125 = .ok (.invokespecial 310, 3) := dk_183 1 54 (dk_at dksX1_askRead_5 9 rfl rfl)
theorem dX1_askRead_128 : decode cX1_askRead 128 = .ok (.invokevirtual 80, 3) := dk_182 0 80 (dk_at dksX1_askRead_5 12 rfl rfl)
theorem dX1_askRead_131 : decode cX1_askRead 131 = .ok (.pop, 1) := dk_87 (dk_at dksX1_askRead_5 15 rfl rfl)
theorem dX1_askRead_132 : decode cX1_askRead 132 = .ok (.aload_n 3, 1) := dk_45 (dk_at dksX1_askRead_5 16 rfl rfl)
theorem dX1_askRead_133 : decode cX1_askRead 133 = .ok (.invokevirtual 260, 3) := dk_182 1 4 (dk_at dksX1_askRead_5 17 rfl rfl)
theorem dX1_askRead_136 : decode cX1_askRead 136 = .ok (.aload_n 0, 1) := dk_42 (dk_at dksX1_askRead_5 20 rfl rfl)
theorem dX1_askRead_137 : decode cX1_askRead 137 = .ok (.getfield 46, 3) := dk_180 0 46 (dk_at dksX1_askRead_5 21 rfl rfl)
theorem dX1_askRead_140 : decode cX1_askRead 140 = .ok (.invokevirtual 76, 3) := dk_182 0 76 (dk_at dksX1_askRead_6 0 rfl rfl)
theorem dX1_askRead_143 : decode cX1_askRead 143 = .ok (.iconst 1, 1) := dk_4 (dk_at dksX1_askRead_6 3 rfl rfl)
theorem dX1_askRead_144 : decode cX1_askRead 144 = .ok (.isub, 1) := dk_100 (dk_at dksX1_askRead_6 4 rfl rfl)
theorem dX1_askRead_145 : decode cX1_askRead 145 = .ok (.ireturn, 1) := dk_172 (dk_at dksX1_askRead_6 5 rfl rfl)
abbrev cX1_readState : ByteArray := prog_1_method_48_code
def yX1_readState : MethodName := ⟨RX1, "readState", "(I)C"⟩
def dkwX1_readState_0 : List UInt8 := [42, 27, 182, 1, 57, 180, 1, 48, 172]
abbrev dktX1_readState_0 : List UInt8 := dkwX1_readState_0 ++ []
theorem dksX1_readState_0 : cX1_readState.data.toList.drop 0 = dktX1_readState_0 := by decide +kernel
theorem dX1_readState_0 : decode cX1_readState 0 = .ok (.aload_n 0, 1) := dk_42 (dk_at dksX1_readState_0 0 rfl rfl)
theorem dX1_readState_1 : decode cX1_readState 1 = .ok (.iload_n 1, 1) := dk_27 (dk_at dksX1_readState_0 1 rfl rfl)
theorem dX1_readState_2 : decode cX1_readState 2 = .ok (.invokevirtual 313, 3) := dk_182 1 57 (dk_at dksX1_readState_0 2 rfl rfl)
theorem dX1_readState_5 : decode cX1_readState 5 = .ok (.getfield 304, 3) := dk_180 1 48 (dk_at dksX1_readState_0 5 rfl rfl)
theorem dX1_readState_8 : decode cX1_readState 8 = .ok (.ireturn, 1) := dk_172 (dk_at dksX1_readState_0 8 rfl rfl)
abbrev cX1_read : ByteArray := prog_1_method_47_code
def yX1_read : MethodName := ⟨RX1, "read", "(I)LQuorumAlmanac$Read;"⟩
def dkwX1_read_1 : List UInt8 := [182, 0, 84, 192, 1, 46, 176]
abbrev dktX1_read_1 : List UInt8 := dkwX1_read_1 ++ []
def dkwX1_read_0 : List UInt8 := [27, 3, 42, 180, 0, 46, 182, 0, 76, 4, 100, 184, 0, 101, 184, 0, 164, 42, 180, 0, 46, 27]
abbrev dktX1_read_0 : List UInt8 := dkwX1_read_0 ++ dktX1_read_1
theorem dksX1_read_0 : cX1_read.data.toList.drop 0 = dktX1_read_0 := by decide +kernel
theorem dksX1_read_1 : cX1_read.data.toList.drop 22 = dktX1_read_1 := dk_seg dksX1_read_0 22 rfl rfl
theorem dX1_read_0 : decode cX1_read 0 = .ok (.iload_n 1, 1) := dk_27 (dk_at dksX1_read_0 0 rfl rfl)
theorem dX1_read_1 : decode cX1_read 1 = .ok (.iconst 0, 1) := dk_3 (dk_at dksX1_read_0 1 rfl rfl)
theorem dX1_read_2 : decode cX1_read 2 = .ok (.aload_n 0, 1) := dk_42 (dk_at dksX1_read_0 2 rfl rfl)
theorem dX1_read_3 : decode cX1_read 3 = .ok (.getfield 46, 3) := dk_180 0 46 (dk_at dksX1_read_0 3 rfl rfl)
theorem dX1_read_6 : decode cX1_read 6 = .ok (.invokevirtual 76, 3) := dk_182 0 76 (dk_at dksX1_read_0 6 rfl rfl)
theorem dX1_read_9 : decode cX1_read 9 = .ok (.iconst 1, 1) := dk_4 (dk_at dksX1_read_0 9 rfl rfl)
theorem dX1_read_10 : decode cX1_read 10 = .ok (.isub, 1) := dk_100 (dk_at dksX1_read_0 10 rfl rfl)
theorem dX1_read_11 : decode cX1_read 11 = .ok (.invokestatic 101, 3) := dk_184 0 101 (dk_at dksX1_read_0 11 rfl rfl)
theorem dX1_read_14 : decode cX1_read 14 = .ok (.invokestatic 164, 3) := dk_184 0 164 (dk_at dksX1_read_0 14 rfl rfl)
theorem dX1_read_17 : decode cX1_read 17 = .ok (.aload_n 0, 1) := dk_42 (dk_at dksX1_read_0 17 rfl rfl)
theorem dX1_read_18 : decode cX1_read 18 = .ok (.getfield 46, 3) := dk_180 0 46 (dk_at dksX1_read_0 18 rfl rfl)
theorem dX1_read_21 : decode cX1_read 21 = .ok (.iload_n 1, 1) := dk_27 (dk_at dksX1_read_0 21 rfl rfl)
theorem dX1_read_22 : decode cX1_read 22 = .ok (.invokevirtual 84, 3) := dk_182 0 84 (dk_at dksX1_read_1 0 rfl rfl)
theorem dX1_read_25 : decode cX1_read 25 = .ok (.checkcast 302, 3) := dk_192 1 46 (dk_at dksX1_read_1 3 rfl rfl)
theorem dX1_read_28 : decode cX1_read 28 = .ok (.areturn, 1) := dk_176 (dk_at dksX1_read_1 6 rfl rfl)
abbrev cX1_readValue : ByteArray := prog_1_method_49_code
def yX1_readValue : MethodName := ⟨RX1, "readValue", "(I)I"⟩
def dkwX1_readValue_1 : List UInt8 := [180, 1, 61, 172]
abbrev dktX1_readValue_1 : List UInt8 := dkwX1_readValue_1 ++ []
def dkwX1_readValue_0 : List UInt8 := [42, 27, 182, 1, 57, 77, 44, 180, 1, 48, 16, 114, 160, 0, 7, 4, 167, 0, 4, 3, 184, 0, 164, 44]
abbrev dktX1_readValue_0 : List UInt8 := dkwX1_readValue_0 ++ dktX1_readValue_1
theorem dksX1_readValue_0 : cX1_readValue.data.toList.drop 0 = dktX1_readValue_0 := by decide +kernel
theorem dksX1_readValue_1 : cX1_readValue.data.toList.drop 24 = dktX1_readValue_1 := dk_seg dksX1_readValue_0 24 rfl rfl
theorem dX1_readValue_0 : decode cX1_readValue 0 = .ok (.aload_n 0, 1) := dk_42 (dk_at dksX1_readValue_0 0 rfl rfl)
theorem dX1_readValue_1 : decode cX1_readValue 1 = .ok (.iload_n 1, 1) := dk_27 (dk_at dksX1_readValue_0 1 rfl rfl)
theorem dX1_readValue_2 : decode cX1_readValue 2 = .ok (.invokevirtual 313, 3) := dk_182 1 57 (dk_at dksX1_readValue_0 2 rfl rfl)
theorem dX1_readValue_5 : decode cX1_readValue 5 = .ok (.astore_n 2, 1) := dk_77 (dk_at dksX1_readValue_0 5 rfl rfl)
theorem dX1_readValue_6 : decode cX1_readValue 6 = .ok (.aload_n 2, 1) := dk_44 (dk_at dksX1_readValue_0 6 rfl rfl)
theorem dX1_readValue_7 : decode cX1_readValue 7 = .ok (.getfield 304, 3) := dk_180 1 48 (dk_at dksX1_readValue_0 7 rfl rfl)
theorem dX1_readValue_10 : decode cX1_readValue 10 = .ok (.bipush 114, 2) := dk_16 114 (dk_at dksX1_readValue_0 10 rfl rfl)
theorem dX1_readValue_12 : decode cX1_readValue 12 = .ok (.if_icmp .ne 7, 3) := dk_160 0 7 (dk_at dksX1_readValue_0 12 rfl rfl)
theorem dX1_readValue_15 : decode cX1_readValue 15 = .ok (.iconst 1, 1) := dk_4 (dk_at dksX1_readValue_0 15 rfl rfl)
theorem dX1_readValue_16 : decode cX1_readValue 16 = .ok (.goto 4, 3) := dk_167 0 4 (dk_at dksX1_readValue_0 16 rfl rfl)
theorem dX1_readValue_19 : decode cX1_readValue 19 = .ok (.iconst 0, 1) := dk_3 (dk_at dksX1_readValue_0 19 rfl rfl)
theorem dX1_readValue_20 : decode cX1_readValue 20 = .ok (.invokestatic 164, 3) := dk_184 0 164 (dk_at dksX1_readValue_0 20 rfl rfl)
theorem dX1_readValue_23 : decode cX1_readValue 23 = .ok (.aload_n 2, 1) := dk_44 (dk_at dksX1_readValue_0 23 rfl rfl)
theorem dX1_readValue_24 : decode cX1_readValue 24 = .ok (.getfield 317, 3) := dk_180 1 61 (dk_at dksX1_readValue_1 0 rfl rfl)
theorem dX1_readValue_27 : decode cX1_readValue 27 = .ok (.ireturn, 1) := dk_172 (dk_at dksX1_readValue_1 3 rfl rfl)
abbrev cX1_readStale : ByteArray := prog_1_method_51_code
def yX1_readStale : MethodName := ⟨RX1, "readStale", "(II)I"⟩
def dkwX1_readStale_0 : List UInt8 := [42, 27, 28, 182, 1, 64, 180, 1, 36, 180, 1, 40, 28, 46, 172]
abbrev dktX1_readStale_0 : List UInt8 := dkwX1_readStale_0 ++ []
theorem dksX1_readStale_0 : cX1_readStale.data.toList.drop 0 = dktX1_readStale_0 := by decide +kernel
theorem dX1_readStale_0 : decode cX1_readStale 0 = .ok (.aload_n 0, 1) := dk_42 (dk_at dksX1_readStale_0 0 rfl rfl)
theorem dX1_readStale_1 : decode cX1_readStale 1 = .ok (.iload_n 1, 1) := dk_27 (dk_at dksX1_readStale_0 1 rfl rfl)
theorem dX1_readStale_2 : decode cX1_readStale 2 = .ok (.iload_n 2, 1) := dk_28 (dk_at dksX1_readStale_0 2 rfl rfl)
theorem dX1_readStale_3 : decode cX1_readStale 3 = .ok (.invokevirtual 320, 3) := dk_182 1 64 (dk_at dksX1_readStale_0 3 rfl rfl)
theorem dX1_readStale_6 : decode cX1_readStale 6 = .ok (.getfield 292, 3) := dk_180 1 36 (dk_at dksX1_readStale_0 6 rfl rfl)
theorem dX1_readStale_9 : decode cX1_readStale 9 = .ok (.getfield 296, 3) := dk_180 1 40 (dk_at dksX1_readStale_0 9 rfl rfl)
theorem dX1_readStale_12 : decode cX1_readStale 12 = .ok (.iload_n 2, 1) := dk_28 (dk_at dksX1_readStale_0 12 rfl rfl)
theorem dX1_readStale_13 : decode cX1_readStale 13 = .ok (.iaload, 1) := dk_46 (dk_at dksX1_readStale_0 13 rfl rfl)
theorem dX1_readStale_14 : decode cX1_readStale 14 = .ok (.ireturn, 1) := dk_172 (dk_at dksX1_readStale_0 14 rfl rfl)
abbrev cX1_readable : ByteArray := prog_1_method_50_code
def yX1_readable : MethodName := ⟨RX1, "readable", "(II)LQuorumAlmanac$Node;"⟩
def dkwX1_readable_0 : List UInt8 := [42, 27, 182, 0, 109, 78, 28, 184, 1, 32, 45, 180, 0, 113, 184, 0, 116, 45, 176]
abbrev dktX1_readable_0 : List UInt8 := dkwX1_readable_0 ++ []
theorem dksX1_readable_0 : cX1_readable.data.toList.drop 0 = dktX1_readable_0 := by decide +kernel
theorem dX1_readable_0 : decode cX1_readable 0 = .ok (.aload_n 0, 1) := dk_42 (dk_at dksX1_readable_0 0 rfl rfl)
theorem dX1_readable_1 : decode cX1_readable 1 = .ok (.iload_n 1, 1) := dk_27 (dk_at dksX1_readable_0 1 rfl rfl)
theorem dX1_readable_2 : decode cX1_readable 2 = .ok (.invokevirtual 109, 3) := dk_182 0 109 (dk_at dksX1_readable_0 2 rfl rfl)
theorem dX1_readable_5 : decode cX1_readable 5 = .ok (.astore_n 3, 1) := dk_78 (dk_at dksX1_readable_0 5 rfl rfl)
theorem dX1_readable_6 : decode cX1_readable 6 = .ok (.iload_n 2, 1) := dk_28 (dk_at dksX1_readable_0 6 rfl rfl)
theorem dX1_readable_7 : decode cX1_readable 7 = .ok (.invokestatic 288, 3) := dk_184 1 32 (dk_at dksX1_readable_0 7 rfl rfl)
theorem dX1_readable_10 : decode cX1_readable 10 = .ok (.aload_n 3, 1) := dk_45 (dk_at dksX1_readable_0 10 rfl rfl)
theorem dX1_readable_11 : decode cX1_readable 11 = .ok (.getfield 113, 3) := dk_180 0 113 (dk_at dksX1_readable_0 11 rfl rfl)
theorem dX1_readable_14 : decode cX1_readable 14 = .ok (.invokestatic 116, 3) := dk_184 0 116 (dk_at dksX1_readable_0 14 rfl rfl)
theorem dX1_readable_17 : decode cX1_readable 17 = .ok (.aload_n 3, 1) := dk_45 (dk_at dksX1_readable_0 17 rfl rfl)
theorem dX1_readable_18 : decode cX1_readable 18 = .ok (.areturn, 1) := dk_176 (dk_at dksX1_readable_0 18 rfl rfl)
abbrev cX1_rangeOf : ByteArray := prog_1_method_52_code
def yX1_rangeOf : MethodName := ⟨RX1, "rangeOf", "(II)I"⟩
def dkwX1_rangeOf_0 : List UInt8 := [42, 27, 28, 182, 1, 64, 180, 1, 36, 28, 182, 1, 68, 172]
abbrev dktX1_rangeOf_0 : List UInt8 := dkwX1_rangeOf_0 ++ []
theorem dksX1_rangeOf_0 : cX1_rangeOf.data.toList.drop 0 = dktX1_rangeOf_0 := by decide +kernel
theorem dX1_rangeOf_0 : decode cX1_rangeOf 0 = .ok (.aload_n 0, 1) := dk_42 (dk_at dksX1_rangeOf_0 0 rfl rfl)
theorem dX1_rangeOf_1 : decode cX1_rangeOf 1 = .ok (.iload_n 1, 1) := dk_27 (dk_at dksX1_rangeOf_0 1 rfl rfl)
theorem dX1_rangeOf_2 : decode cX1_rangeOf 2 = .ok (.iload_n 2, 1) := dk_28 (dk_at dksX1_rangeOf_0 2 rfl rfl)
theorem dX1_rangeOf_3 : decode cX1_rangeOf 3 = .ok (.invokevirtual 320, 3) := dk_182 1 64 (dk_at dksX1_rangeOf_0 3 rfl rfl)
theorem dX1_rangeOf_6 : decode cX1_rangeOf 6 = .ok (.getfield 292, 3) := dk_180 1 36 (dk_at dksX1_rangeOf_0 6 rfl rfl)
theorem dX1_rangeOf_9 : decode cX1_rangeOf 9 = .ok (.iload_n 2, 1) := dk_28 (dk_at dksX1_rangeOf_0 9 rfl rfl)
theorem dX1_rangeOf_10 : decode cX1_rangeOf 10 = .ok (.invokevirtual 324, 3) := dk_182 1 68 (dk_at dksX1_rangeOf_0 10 rfl rfl)
theorem dX1_rangeOf_13 : decode cX1_rangeOf 13 = .ok (.ireturn, 1) := dk_172 (dk_at dksX1_rangeOf_0 13 rfl rfl)
abbrev cX1_load : ByteArray := prog_1_method_53_code
def yX1_load : MethodName := ⟨RX1, "load", "(II)I"⟩
def dkwX1_load_0 : List UInt8 := [42, 27, 28, 182, 1, 64, 180, 1, 36, 78, 45, 180, 1, 72, 45, 28, 182, 1, 68, 46, 172]
abbrev dktX1_load_0 : List UInt8 := dkwX1_load_0 ++ []
theorem dksX1_load_0 : cX1_load.data.toList.drop 0 = dktX1_load_0 := by decide +kernel
theorem dX1_load_0 : decode cX1_load 0 = .ok (.aload_n 0, 1) := dk_42 (dk_at dksX1_load_0 0 rfl rfl)
theorem dX1_load_1 : decode cX1_load 1 = .ok (.iload_n 1, 1) := dk_27 (dk_at dksX1_load_0 1 rfl rfl)
theorem dX1_load_2 : decode cX1_load 2 = .ok (.iload_n 2, 1) := dk_28 (dk_at dksX1_load_0 2 rfl rfl)
theorem dX1_load_3 : decode cX1_load 3 = .ok (.invokevirtual 320, 3) := dk_182 1 64 (dk_at dksX1_load_0 3 rfl rfl)
theorem dX1_load_6 : decode cX1_load 6 = .ok (.getfield 292, 3) := dk_180 1 36 (dk_at dksX1_load_0 6 rfl rfl)
theorem dX1_load_9 : decode cX1_load 9 = .ok (.astore_n 3, 1) := dk_78 (dk_at dksX1_load_0 9 rfl rfl)
theorem dX1_load_10 : decode cX1_load 10 = .ok (.aload_n 3, 1) := dk_45 (dk_at dksX1_load_0 10 rfl rfl)
theorem dX1_load_11 : decode cX1_load 11 = .ok (.getfield 328, 3) := dk_180 1 72 (dk_at dksX1_load_0 11 rfl rfl)
theorem dX1_load_14 : decode cX1_load 14 = .ok (.aload_n 3, 1) := dk_45 (dk_at dksX1_load_0 14 rfl rfl)
theorem dX1_load_15 : decode cX1_load 15 = .ok (.iload_n 2, 1) := dk_28 (dk_at dksX1_load_0 15 rfl rfl)
theorem dX1_load_16 : decode cX1_load 16 = .ok (.invokevirtual 324, 3) := dk_182 1 68 (dk_at dksX1_load_0 16 rfl rfl)
theorem dX1_load_19 : decode cX1_load 19 = .ok (.iaload, 1) := dk_46 (dk_at dksX1_load_0 19 rfl rfl)
theorem dX1_load_20 : decode cX1_load 20 = .ok (.ireturn, 1) := dk_172 (dk_at dksX1_load_0 20 rfl rfl)
abbrev cX1_valueByHistory : ByteArray := prog_1_method_55_code
def yX1_valueByHistory : MethodName := ⟨RX1, "valueByHistory", "(I)I"⟩
def dkwX1_valueByHistory_2 : List UInt8 := [182, 1, 76, 167, 255, 230, 44, 180, 1, 40, 27, 46, 172]
abbrev dktX1_valueByHistory_2 : List UInt8 := dkwX1_valueByHistory_2 ++ []
def dkwX1_valueByHistory_1 : List UInt8 := [185, 0, 199, 1, 0, 153, 0, 23, 45, 185, 0, 205, 1, 0, 192, 0, 88, 58, 4, 44, 25, 4]
abbrev dktX1_valueByHistory_1 : List UInt8 := dkwX1_valueByHistory_1 ++ dktX1_valueByHistory_2
def dkwX1_valueByHistory_0 : List UInt8 := [27, 184, 1, 32, 187, 1, 41, 89, 183, 1, 75, 77, 42, 180, 0, 49, 182, 0, 195, 78, 45]
abbrev dktX1_valueByHistory_0 : List UInt8 := dkwX1_valueByHistory_0 ++ dktX1_valueByHistory_1
theorem dksX1_valueByHistory_0 : cX1_valueByHistory.data.toList.drop 0 = dktX1_valueByHistory_0 := by decide +kernel
theorem dksX1_valueByHistory_1 : cX1_valueByHistory.data.toList.drop 21 = dktX1_valueByHistory_1 := dk_seg dksX1_valueByHistory_0 21 rfl rfl
theorem dksX1_valueByHistory_2 : cX1_valueByHistory.data.toList.drop 43 = dktX1_valueByHistory_2 := dk_seg dksX1_valueByHistory_1 22 rfl rfl
theorem dX1_valueByHistory_0 : decode cX1_valueByHistory 0 = .ok (.iload_n 1, 1) := dk_27 (dk_at dksX1_valueByHistory_0 0 rfl rfl)
theorem dX1_valueByHistory_1 : decode cX1_valueByHistory 1 = .ok (.invokestatic 288, 3) := dk_184 1 32 (dk_at dksX1_valueByHistory_0 1 rfl rfl)
theorem dX1_valueByHistory_4 : decode cX1_valueByHistory 4 = .ok (.new 297, 3) := dk_187 1 41 (dk_at dksX1_valueByHistory_0 4 rfl rfl)
theorem dX1_valueByHistory_7 : decode cX1_valueByHistory 7 = .ok (.dup, 1) := dk_89 (dk_at dksX1_valueByHistory_0 7 rfl rfl)
theorem dX1_valueByHistory_8 : decode cX1_valueByHistory 8 = .ok (.invokespecial 331, 3) := dk_183 1 75 (dk_at dksX1_valueByHistory_0 8 rfl rfl)
theorem dX1_valueByHistory_11 : decode cX1_valueByHistory 11 = .ok (.astore_n 2, 1) := dk_77 (dk_at dksX1_valueByHistory_0 11 rfl rfl)
theorem dX1_valueByHistory_12 : decode cX1_valueByHistory 12 = .ok (.aload_n 0, 1) := dk_42 (dk_at dksX1_valueByHistory_0 12 rfl rfl)
theorem dX1_valueByHistory_13 : decode cX1_valueByHistory 13 = .ok (.getfield 49, 3) := dk_180 0 49 (dk_at dksX1_valueByHistory_0 13 rfl rfl)
theorem dX1_valueByHistory_16 : decode cX1_valueByHistory 16 = .ok (.invokevirtual 195, 3) := dk_182 0 195 (dk_at dksX1_valueByHistory_0 16 rfl rfl)
theorem dX1_valueByHistory_19 : decode cX1_valueByHistory 19 = .ok (.astore_n 3, 1) := dk_78 (dk_at dksX1_valueByHistory_0 19 rfl rfl)
theorem dX1_valueByHistory_20 : decode cX1_valueByHistory 20 = .ok (.aload_n 3, 1) := dk_45 (dk_at dksX1_valueByHistory_0 20 rfl rfl)
theorem dX1_valueByHistory_21 : decode cX1_valueByHistory 21 = .ok (.invokeinterface 199 1, 5) := by decide +kernel
theorem dX1_valueByHistory_26 : decode cX1_valueByHistory 26 = .ok (.ifCond .eq 23, 3) := dk_153 0 23 (dk_at dksX1_valueByHistory_1 5 rfl rfl)
theorem dX1_valueByHistory_29 : decode cX1_valueByHistory 29 = .ok (.aload_n 3, 1) := dk_45 (dk_at dksX1_valueByHistory_1 8 rfl rfl)
theorem dX1_valueByHistory_30 : decode cX1_valueByHistory 30 = .ok (.invokeinterface 205 1, 5) := by decide +kernel
theorem dX1_valueByHistory_35 : decode cX1_valueByHistory 35 = .ok (.checkcast 88, 3) := dk_192 0 88 (dk_at dksX1_valueByHistory_1 14 rfl rfl)
theorem dX1_valueByHistory_38 : decode cX1_valueByHistory 38 = .ok (.astore 4, 2) := dk_58 4 (dk_at dksX1_valueByHistory_1 17 rfl rfl)
theorem dX1_valueByHistory_40 : decode cX1_valueByHistory 40 = .ok (.aload_n 2, 1) := dk_44 (dk_at dksX1_valueByHistory_1 19 rfl rfl)
theorem dX1_valueByHistory_41 : decode cX1_valueByHistory 41 = .ok (.aload 4, 2) := dk_25 4 (dk_at dksX1_valueByHistory_1 20 rfl rfl)
theorem dX1_valueByHistory_43 : decode cX1_valueByHistory 43 = .ok (.invokevirtual 332, 3) := dk_182 1 76 (dk_at dksX1_valueByHistory_2 0 rfl rfl)
theorem dX1_valueByHistory_46 : decode cX1_valueByHistory 46 = .ok (.goto (-26), 3) := dk_167 255 230 (dk_at dksX1_valueByHistory_2 3 rfl rfl)
theorem dX1_valueByHistory_49 : decode cX1_valueByHistory 49 = .ok (.aload_n 2, 1) := dk_44 (dk_at dksX1_valueByHistory_2 6 rfl rfl)
theorem dX1_valueByHistory_50 : decode cX1_valueByHistory 50 = .ok (.getfield 296, 3) := dk_180 1 40 (dk_at dksX1_valueByHistory_2 7 rfl rfl)
theorem dX1_valueByHistory_53 : decode cX1_valueByHistory 53 = .ok (.iload_n 1, 1) := dk_27 (dk_at dksX1_valueByHistory_2 10 rfl rfl)
theorem dX1_valueByHistory_54 : decode cX1_valueByHistory 54 = .ok (.iaload, 1) := dk_46 (dk_at dksX1_valueByHistory_2 11 rfl rfl)
theorem dX1_valueByHistory_55 : decode cX1_valueByHistory 55 = .ok (.ireturn, 1) := dk_172 (dk_at dksX1_valueByHistory_2 12 rfl rfl)
abbrev cX1_refusedShare : ByteArray := prog_1_method_57_code
def yX1_refusedShare : MethodName := ⟨RX1, "refusedShare", "()F"⟩
def dkwX1_refusedShare_1 : List UInt8 := [180, 0, 232, 137, 110, 174]
abbrev dktX1_refusedShare_1 : List UInt8 := dkwX1_refusedShare_1 ++ []
def dkwX1_refusedShare_0 : List UInt8 := [42, 180, 0, 232, 9, 148, 154, 0, 11, 187, 1, 80, 89, 183, 1, 82, 191, 42, 180, 1, 83, 134, 42]
abbrev dktX1_refusedShare_0 : List UInt8 := dkwX1_refusedShare_0 ++ dktX1_refusedShare_1
theorem dksX1_refusedShare_0 : cX1_refusedShare.data.toList.drop 0 = dktX1_refusedShare_0 := by decide +kernel
theorem dksX1_refusedShare_1 : cX1_refusedShare.data.toList.drop 23 = dktX1_refusedShare_1 := dk_seg dksX1_refusedShare_0 23 rfl rfl
theorem dX1_refusedShare_0 : decode cX1_refusedShare 0 = .ok (.aload_n 0, 1) := dk_42 (dk_at dksX1_refusedShare_0 0 rfl rfl)
theorem dX1_refusedShare_1 : decode cX1_refusedShare 1 = .ok (.getfield 232, 3) := dk_180 0 232 (dk_at dksX1_refusedShare_0 1 rfl rfl)
theorem dX1_refusedShare_4 : decode cX1_refusedShare 4 = .ok (.lconst 0, 1) := dk_9 (dk_at dksX1_refusedShare_0 4 rfl rfl)
theorem dX1_refusedShare_5 : decode cX1_refusedShare 5 = .ok (.lcmp, 1) := dk_148 (dk_at dksX1_refusedShare_0 5 rfl rfl)
theorem dX1_refusedShare_6 : decode cX1_refusedShare 6 = .ok (.ifCond .ne 11, 3) := dk_154 0 11 (dk_at dksX1_refusedShare_0 6 rfl rfl)
theorem dX1_refusedShare_9 : decode cX1_refusedShare 9 = .ok (.new 336, 3) := dk_187 1 80 (dk_at dksX1_refusedShare_0 9 rfl rfl)
theorem dX1_refusedShare_12 : decode cX1_refusedShare 12 = .ok (.dup, 1) := dk_89 (dk_at dksX1_refusedShare_0 12 rfl rfl)
theorem dX1_refusedShare_13 : decode cX1_refusedShare 13 = .ok (.invokespecial 338, 3) := dk_183 1 82 (dk_at dksX1_refusedShare_0 13 rfl rfl)
theorem dX1_refusedShare_16 : decode cX1_refusedShare 16 = .ok (.athrow, 1) := dk_191 (dk_at dksX1_refusedShare_0 16 rfl rfl)
theorem dX1_refusedShare_17 : decode cX1_refusedShare 17 = .ok (.aload_n 0, 1) := dk_42 (dk_at dksX1_refusedShare_0 17 rfl rfl)
theorem dX1_refusedShare_18 : decode cX1_refusedShare 18 = .ok (.getfield 339, 3) := dk_180 1 83 (dk_at dksX1_refusedShare_0 18 rfl rfl)
theorem dX1_refusedShare_21 : decode cX1_refusedShare 21 = .ok (.i2f, 1) := dk_134 (dk_at dksX1_refusedShare_0 21 rfl rfl)
theorem dX1_refusedShare_22 : decode cX1_refusedShare 22 = .ok (.aload_n 0, 1) := dk_42 (dk_at dksX1_refusedShare_0 22 rfl rfl)
theorem dX1_refusedShare_23 : decode cX1_refusedShare 23 = .ok (.getfield 232, 3) := dk_180 0 232 (dk_at dksX1_refusedShare_1 0 rfl rfl)
theorem dX1_refusedShare_26 : decode cX1_refusedShare 26 = .ok (.l2f, 1) := dk_137 (dk_at dksX1_refusedShare_1 3 rfl rfl)
theorem dX1_refusedShare_27 : decode cX1_refusedShare 27 = .ok (.fdiv, 1) := dk_110 (dk_at dksX1_refusedShare_1 4 rfl rfl)
theorem dX1_refusedShare_28 : decode cX1_refusedShare 28 = .ok (.freturn, 1) := dk_174 (dk_at dksX1_refusedShare_1 5 rfl rfl)
theorem q45 : (Jvm.Cond.initialized "QuorumAlmanac") ∈ lw_all := lw_g (lw_at lw_m1 1 rfl) rfl
theorem q98 : (Jvm.Cond.instantiable "QuorumAlmanac" (11 : Nat)) ∈ lw_all := lw_g (lw_at lw_m1 54 rfl) rfl
theorem q100 : (Jvm.Cond.instanceMethod ({ cls := "QuorumAlmanac", name := "<init>", desc := "(I)V" } : Jvm.MethodName)) ∈ lw_all := lw_g (lw_at lw_m1 56 rfl) rfl
theorem q101 : (Jvm.Cond.code ({ cls := "QuorumAlmanac", name := "<init>", desc := "(I)V" } : Jvm.MethodName) prog_1_method_7_code (4 : Nat) (Option.none : Option Jvm.ClassFile.FieldType)) ∈ lw_all := lw_g (lw_at lw_m1 57 rfl) rfl
theorem q102 : (Jvm.Cond.methodLink "QuorumAlmanac" (16 : Nat) ({ cls := "java/lang/Object", name := "<init>", desc := "()V" } : Jvm.MethodName)) ∈ lw_all := lw_g (lw_at lw_m1 58 rfl) rfl
theorem q105 : (Jvm.Cond.static ({ cls := "QuorumAlmanac", name := "lambda$new$0", desc := "(LQuorumAlmanac$Node;)I" } : Jvm.MethodName)) ∈ lw_all := lw_g (lw_at lw_m1 61 rfl) rfl
theorem q106 : (Jvm.Cond.code ({ cls := "QuorumAlmanac", name := "lambda$new$0", desc := "(LQuorumAlmanac$Node;)I" } : Jvm.MethodName) prog_1_method_64_code (1 : Nat) (Option.some Jvm.ClassFile.FieldType.int)) ∈ lw_all := lw_g (lw_at lw_m1 62 rfl) rfl
theorem q107 : (Jvm.Cond.methodLink "QuorumAlmanac" (257 : Nat) ({ cls := "QuorumAlmanac$Node", name := "last", desc := "()I" } : Jvm.MethodName)) ∈ lw_all := lw_g (lw_at lw_m1 63 rfl) rfl
theorem q115 : (Jvm.Cond.static ({ cls := "QuorumAlmanac", name := "lambda$new$1", desc := "(LQuorumAlmanac$Node;)I" } : Jvm.MethodName)) ∈ lw_all := lw_g (lw_at lw_m1 71 rfl) rfl
theorem q116 : (Jvm.Cond.code ({ cls := "QuorumAlmanac", name := "lambda$new$1", desc := "(LQuorumAlmanac$Node;)I" } : Jvm.MethodName) prog_1_method_63_code (1 : Nat) (Option.some Jvm.ClassFile.FieldType.int)) ∈ lw_all := lw_g (lw_at lw_m1 72 rfl) rfl
theorem q117 : (Jvm.Cond.classLink "QuorumAlmanac" (33 : Nat) "QuorumAlmanac$Node") ∈ lw_all := lw_g (lw_at lw_m1 73 rfl) rfl
theorem q119 : (Jvm.Cond.classLink "QuorumAlmanac" (39 : Nat) "java/util/ArrayList") ∈ lw_all := lw_g (lw_at lw_m1 75 rfl) rfl
theorem q121 : (Jvm.Cond.methodLink "QuorumAlmanac" (41 : Nat) ({ cls := "java/util/ArrayList", name := "<init>", desc := "()V" } : Jvm.MethodName)) ∈ lw_all := lw_g (lw_at lw_m1 77 rfl) rfl
theorem q148 : (Jvm.Cond.methodLink "QuorumAlmanac" (59 : Nat) ({ cls := "java/lang/Math", name := "min", desc := "(II)I" } : Jvm.MethodName)) ∈ lw_all := lw_g (lw_at lw_m1 104 rfl) rfl
theorem q151 : (Jvm.Cond.methodLink "QuorumAlmanac" (65 : Nat) ({ cls := "java/lang/Math", name := "max", desc := "(II)I" } : Jvm.MethodName)) ∈ lw_all := lw_g (lw_at lw_m1 107 rfl) rfl
theorem q155 : (Jvm.Cond.classLink "QuorumAlmanac" (68 : Nat) "QuorumAlmanac$Members") ∈ lw_all := lw_g (lw_at lw_m1 111 rfl) rfl
theorem q157 : (Jvm.Cond.methodLink "QuorumAlmanac" (70 : Nat) ({ cls := "QuorumAlmanac$Members", name := "<init>", desc := "(II)V" } : Jvm.MethodName)) ∈ lw_all := lw_g (lw_at lw_m1 113 rfl) rfl
theorem q164 : (Jvm.Cond.fieldLink "QuorumAlmanac" (282 : Nat) "QuorumAlmanac$Members" "now" "I") ∈ lw_all := lw_g (lw_at lw_m1 120 rfl) rfl
theorem q170 : (Jvm.Cond.methodLink "QuorumAlmanac" (73 : Nat) ({ cls := "QuorumAlmanac$Node", name := "<init>", desc := "(LQuorumAlmanac;ILQuorumAlmanac$Members;)V" } : Jvm.MethodName)) ∈ lw_all := lw_g (lw_at lw_m1 126 rfl) rfl
theorem q184 : (Jvm.Cond.fieldLink "QuorumAlmanac" (296 : Nat) "QuorumAlmanac$Store" "values" "[I") ∈ lw_all := lw_g (lw_at lw_m1 140 rfl) rfl
theorem q187 : (Jvm.Cond.fieldLink "QuorumAlmanac" (328 : Nat) "QuorumAlmanac$Store" "counts" "[I") ∈ lw_all := lw_g (lw_at lw_m1 143 rfl) rfl
theorem q205 : (Jvm.Cond.fieldLink "QuorumAlmanac" (144 : Nat) "QuorumAlmanac$Snapshot" "index" "I") ∈ lw_all := lw_g (lw_at lw_m1 161 rfl) rfl
theorem q223 : (Jvm.Cond.fieldLink "QuorumAlmanac" (113 : Nat) "QuorumAlmanac$Node" "runs" "Z") ∈ lw_all := lw_g (lw_at lw_m1 179 rfl) rfl
theorem q227 : (Jvm.Cond.fieldLink "QuorumAlmanac" (152 : Nat) "QuorumAlmanac$Node" "role" "C") ∈ lw_all := lw_g (lw_at lw_m1 183 rfl) rfl
theorem q229 : (Jvm.Cond.fieldLink "QuorumAlmanac" (122 : Nat) "QuorumAlmanac$Node" "clock" "I") ∈ lw_all := lw_g (lw_at lw_m1 185 rfl) rfl
theorem q235 : (Jvm.Cond.fieldLink "QuorumAlmanac" (253 : Nat) "QuorumAlmanac$Node" "term" "I") ∈ lw_all := lw_g (lw_at lw_m1 191 rfl) rfl
theorem q237 : (Jvm.Cond.fieldLink "QuorumAlmanac" (161 : Nat) "QuorumAlmanac$Node" "vote" "I") ∈ lw_all := lw_g (lw_at lw_m1 193 rfl) rfl
theorem q241 : (Jvm.Cond.fieldLink "QuorumAlmanac" (140 : Nat) "QuorumAlmanac$Node" "snapshot" "LQuorumAlmanac$Snapshot;") ∈ lw_all := lw_g (lw_at lw_m1 197 rfl) rfl
theorem q243 : (Jvm.Cond.fieldLink "QuorumAlmanac" (250 : Nat) "QuorumAlmanac$Node" "log" "Ljava/util/ArrayList;") ∈ lw_all := lw_g (lw_at lw_m1 199 rfl) rfl
theorem q244 : (Jvm.Cond.fieldLink "QuorumAlmanac" (167 : Nat) "QuorumAlmanac$Node" "synced" "I") ∈ lw_all := lw_g (lw_at lw_m1 200 rfl) rfl
theorem q247 : (Jvm.Cond.fieldLink "QuorumAlmanac" (137 : Nat) "QuorumAlmanac$Node" "committed" "I") ∈ lw_all := lw_g (lw_at lw_m1 203 rfl) rfl
theorem q249 : (Jvm.Cond.fieldLink "QuorumAlmanac" (292 : Nat) "QuorumAlmanac$Node" "store" "LQuorumAlmanac$Store;") ∈ lw_all := lw_g (lw_at lw_m1 205 rfl) rfl
theorem q259 : (Jvm.Cond.fieldLink "QuorumAlmanac" (307 : Nat) "QuorumAlmanac$Node" "roundClocks" "Ljava/util/ArrayList;") ∈ lw_all := lw_g (lw_at lw_m1 215 rfl) rfl
theorem q306 : (Jvm.Cond.fieldLink "QuorumAlmanac" (23 : Nat) "QuorumAlmanac" "lastOf" "LQuorumAlmanac$Measure;") ∈ lw_all := lw_g (lw_at lw_m2 22 rfl) rfl
theorem q307 : (Jvm.Cond.fieldLink "QuorumAlmanac" (30 : Nat) "QuorumAlmanac" "termOf" "LQuorumAlmanac$Measure;") ∈ lw_all := lw_g (lw_at lw_m2 23 rfl) rfl
theorem q308 : (Jvm.Cond.fieldLink "QuorumAlmanac" (35 : Nat) "QuorumAlmanac" "nodes" "[LQuorumAlmanac$Node;") ∈ lw_all := lw_g (lw_at lw_m2 24 rfl) rfl
theorem q310 : (Jvm.Cond.fieldLink "QuorumAlmanac" (42 : Nat) "QuorumAlmanac" "messages" "Ljava/util/ArrayList;") ∈ lw_all := lw_g (lw_at lw_m2 26 rfl) rfl
theorem q311 : (Jvm.Cond.fieldLink "QuorumAlmanac" (46 : Nat) "QuorumAlmanac" "reads" "Ljava/util/ArrayList;") ∈ lw_all := lw_g (lw_at lw_m2 27 rfl) rfl
theorem q313 : (Jvm.Cond.fieldLink "QuorumAlmanac" (49 : Nat) "QuorumAlmanac" "history" "Ljava/util/ArrayList;") ∈ lw_all := lw_g (lw_at lw_m2 29 rfl) rfl
theorem q314 : (Jvm.Cond.fieldLink "QuorumAlmanac" (94 : Nat) "QuorumAlmanac" "made" "I") ∈ lw_all := lw_g (lw_at lw_m2 30 rfl) rfl
theorem q315 : (Jvm.Cond.fieldLink "QuorumAlmanac" (232 : Nat) "QuorumAlmanac" "delivered" "J") ∈ lw_all := lw_g (lw_at lw_m2 31 rfl) rfl
theorem q317 : (Jvm.Cond.fieldLink "QuorumAlmanac" (339 : Nat) "QuorumAlmanac" "refused" "I") ∈ lw_all := lw_g (lw_at lw_m2 33 rfl) rfl
theorem q318 : (Jvm.Cond.fieldLink "QuorumAlmanac" (52 : Nat) "QuorumAlmanac" "isAgreed" "Z") ∈ lw_all := lw_g (lw_at lw_m2 34 rfl) rfl
theorem q319 : (Jvm.Cond.fieldLink "QuorumAlmanac" (56 : Nat) "QuorumAlmanac" "isStrong" "Z") ∈ lw_all := lw_g (lw_at lw_m2 35 rfl) rfl
theorem q321 : (Jvm.Cond.laysFinal "QuorumAlmanac" "QuorumAlmanac" "lastOf" "LQuorumAlmanac$Measure;") ∈ lw_all := lw_g (lw_at lw_m2 37 rfl) rfl
theorem q322 : (Jvm.Cond.soleField "QuorumAlmanac" "lastOf") ∈ lw_all := lw_g (lw_at lw_m2 38 rfl) rfl
theorem q323 : (Jvm.Cond.laysFinal "QuorumAlmanac" "QuorumAlmanac" "termOf" "LQuorumAlmanac$Measure;") ∈ lw_all := lw_g (lw_at lw_m2 39 rfl) rfl
theorem q324 : (Jvm.Cond.soleField "QuorumAlmanac" "termOf") ∈ lw_all := lw_g (lw_at lw_m2 40 rfl) rfl
theorem q325 : (Jvm.Cond.laysFinal "QuorumAlmanac" "QuorumAlmanac" "nodes" "[LQuorumAlmanac$Node;") ∈ lw_all := lw_g (lw_at lw_m2 41 rfl) rfl
theorem q326 : (Jvm.Cond.soleField "QuorumAlmanac" "nodes") ∈ lw_all := lw_g (lw_at lw_m2 42 rfl) rfl
theorem q327 : (Jvm.Cond.laysFinal "QuorumAlmanac" "QuorumAlmanac" "messages" "Ljava/util/ArrayList;") ∈ lw_all := lw_g (lw_at lw_m2 43 rfl) rfl
theorem q328 : (Jvm.Cond.soleField "QuorumAlmanac" "messages") ∈ lw_all := lw_g (lw_at lw_m2 44 rfl) rfl
theorem q329 : (Jvm.Cond.laysFinal "QuorumAlmanac" "QuorumAlmanac" "reads" "Ljava/util/ArrayList;") ∈ lw_all := lw_g (lw_at lw_m2 45 rfl) rfl
theorem q330 : (Jvm.Cond.soleField "QuorumAlmanac" "reads") ∈ lw_all := lw_g (lw_at lw_m2 46 rfl) rfl
theorem q331 : (Jvm.Cond.laysFinal "QuorumAlmanac" "QuorumAlmanac" "history" "Ljava/util/ArrayList;") ∈ lw_all := lw_g (lw_at lw_m2 47 rfl) rfl
theorem q332 : (Jvm.Cond.soleField "QuorumAlmanac" "history") ∈ lw_all := lw_g (lw_at lw_m2 48 rfl) rfl
theorem q333 : (Jvm.Cond.lays "QuorumAlmanac" "QuorumAlmanac" "made" "I") ∈ lw_all := lw_g (lw_at lw_m2 49 rfl) rfl
theorem q334 : (Jvm.Cond.soleField "QuorumAlmanac" "made") ∈ lw_all := lw_g (lw_at lw_m2 50 rfl) rfl
theorem q335 : (Jvm.Cond.lays "QuorumAlmanac" "QuorumAlmanac" "delivered" "J") ∈ lw_all := lw_g (lw_at lw_m2 51 rfl) rfl
theorem q336 : (Jvm.Cond.soleField "QuorumAlmanac" "delivered") ∈ lw_all := lw_g (lw_at lw_m2 52 rfl) rfl
theorem q337 : (Jvm.Cond.lays "QuorumAlmanac" "QuorumAlmanac" "refused" "I") ∈ lw_all := lw_g (lw_at lw_m2 53 rfl) rfl
theorem q338 : (Jvm.Cond.soleField "QuorumAlmanac" "refused") ∈ lw_all := lw_g (lw_at lw_m2 54 rfl) rfl
theorem q339 : (Jvm.Cond.lays "QuorumAlmanac" "QuorumAlmanac" "isAgreed" "Z") ∈ lw_all := lw_g (lw_at lw_m2 55 rfl) rfl
theorem q340 : (Jvm.Cond.soleField "QuorumAlmanac" "isAgreed") ∈ lw_all := lw_g (lw_at lw_m2 56 rfl) rfl
theorem q341 : (Jvm.Cond.lays "QuorumAlmanac" "QuorumAlmanac" "isStrong" "Z") ∈ lw_all := lw_g (lw_at lw_m2 57 rfl) rfl
theorem q342 : (Jvm.Cond.soleField "QuorumAlmanac" "isStrong") ∈ lw_all := lw_g (lw_at lw_m2 58 rfl) rfl
theorem q343 : (Jvm.Cond.superclass "QuorumAlmanac" "java/lang/Object") ∈ lw_all := lw_g (lw_at lw_m2 59 rfl) rfl
theorem q345 : (Jvm.Cond.instanceMethod ({ cls := "QuorumAlmanac", name := "waiting", desc := "()I" } : Jvm.MethodName)) ∈ lw_all := lw_g (lw_at lw_m2 61 rfl) rfl
theorem q346 : (Jvm.Cond.selects "QuorumAlmanac" ({ cls := "QuorumAlmanac", name := "waiting", desc := "()I" } : Jvm.MethodName) ({ cls := "QuorumAlmanac", name := "waiting", desc := "()I" } : Jvm.MethodName)) ∈ lw_all := lw_g (lw_at lw_m2 62 rfl) rfl
theorem q347 : (Jvm.Cond.code ({ cls := "QuorumAlmanac", name := "waiting", desc := "()I" } : Jvm.MethodName) prog_1_method_31_code (1 : Nat) (Option.some Jvm.ClassFile.FieldType.int)) ∈ lw_all := lw_g (lw_at lw_m2 63 rfl) rfl
theorem q348 : (Jvm.Cond.methodLink "QuorumAlmanac" (76 : Nat) ({ cls := "java/util/ArrayList", name := "size", desc := "()I" } : Jvm.MethodName)) ∈ lw_all := lw_g (lw_at lw_m2 64 rfl) rfl
theorem q350 : (Jvm.Cond.instanceMethod ({ cls := "QuorumAlmanac", name := "history", desc := "()I" } : Jvm.MethodName)) ∈ lw_all := lw_g (lw_at lw_m2 66 rfl) rfl
theorem q351 : (Jvm.Cond.selects "QuorumAlmanac" ({ cls := "QuorumAlmanac", name := "history", desc := "()I" } : Jvm.MethodName) ({ cls := "QuorumAlmanac", name := "history", desc := "()I" } : Jvm.MethodName)) ∈ lw_all := lw_g (lw_at lw_m2 67 rfl) rfl
theorem q352 : (Jvm.Cond.code ({ cls := "QuorumAlmanac", name := "history", desc := "()I" } : Jvm.MethodName) prog_1_method_54_code (1 : Nat) (Option.some Jvm.ClassFile.FieldType.int)) ∈ lw_all := lw_g (lw_at lw_m2 68 rfl) rfl
theorem q354 : (Jvm.Cond.instanceMethod ({ cls := "QuorumAlmanac", name := "delivered", desc := "()J" } : Jvm.MethodName)) ∈ lw_all := lw_g (lw_at lw_m2 70 rfl) rfl
theorem q355 : (Jvm.Cond.selects "QuorumAlmanac" ({ cls := "QuorumAlmanac", name := "delivered", desc := "()J" } : Jvm.MethodName) ({ cls := "QuorumAlmanac", name := "delivered", desc := "()J" } : Jvm.MethodName)) ∈ lw_all := lw_g (lw_at lw_m2 71 rfl) rfl
theorem q356 : (Jvm.Cond.code ({ cls := "QuorumAlmanac", name := "delivered", desc := "()J" } : Jvm.MethodName) prog_1_method_56_code (1 : Nat) (Option.some Jvm.ClassFile.FieldType.long)) ∈ lw_all := lw_g (lw_at lw_m2 72 rfl) rfl
theorem q358 : (Jvm.Cond.instanceMethod ({ cls := "QuorumAlmanac", name := "meanLast", desc := "()D" } : Jvm.MethodName)) ∈ lw_all := lw_g (lw_at lw_m2 74 rfl) rfl
theorem q359 : (Jvm.Cond.selects "QuorumAlmanac" ({ cls := "QuorumAlmanac", name := "meanLast", desc := "()D" } : Jvm.MethodName) ({ cls := "QuorumAlmanac", name := "meanLast", desc := "()D" } : Jvm.MethodName)) ∈ lw_all := lw_g (lw_at lw_m2 75 rfl) rfl
theorem q360 : (Jvm.Cond.code ({ cls := "QuorumAlmanac", name := "meanLast", desc := "()D" } : Jvm.MethodName) prog_1_method_58_code (6 : Nat) (Option.some Jvm.ClassFile.FieldType.double)) ∈ lw_all := lw_g (lw_at lw_m2 76 rfl) rfl
theorem q361 : (Jvm.Cond.interfaceEntry "QuorumAlmanac" (156 : Nat)) ∈ lw_tbl := lw_at lw_m2 77 rfl
theorem q362 : (Jvm.Cond.methodLink "QuorumAlmanac" (156 : Nat) ({ cls := "QuorumAlmanac$Measure", name := "of", desc := "(LQuorumAlmanac$Node;)I" } : Jvm.MethodName)) ∈ lw_all := lw_g (lw_at lw_m2 78 rfl) rfl
theorem q365 : (Jvm.Cond.constantDouble "QuorumAlmanac" (342 : Nat) (4617315517961601024 : UInt64)) ∈ lw_all := lw_g (lw_at lw_m2 81 rfl) rfl
theorem q367 : (Jvm.Cond.instanceMethod ({ cls := "QuorumAlmanac", name := "isSound", desc := "()Z" } : Jvm.MethodName)) ∈ lw_all := lw_g (lw_at lw_m2 83 rfl) rfl
theorem q368 : (Jvm.Cond.selects "QuorumAlmanac" ({ cls := "QuorumAlmanac", name := "isSound", desc := "()Z" } : Jvm.MethodName) ({ cls := "QuorumAlmanac", name := "isSound", desc := "()Z" } : Jvm.MethodName)) ∈ lw_all := lw_g (lw_at lw_m2 84 rfl) rfl
theorem q369 : (Jvm.Cond.code ({ cls := "QuorumAlmanac", name := "isSound", desc := "()Z" } : Jvm.MethodName) prog_1_method_62_code (1 : Nat) (Option.some Jvm.ClassFile.FieldType.boolean)) ∈ lw_all := lw_g (lw_at lw_m2 85 rfl) rfl
theorem q370 : (Jvm.Cond.methodLink "QuorumAlmanac" (366 : Nat) ({ cls := "QuorumAlmanac", name := "hasOneLeaderATerm", desc := "()Z" } : Jvm.MethodName)) ∈ lw_all := lw_g (lw_at lw_m2 86 rfl) rfl
theorem q371 : (Jvm.Cond.privateMethod ({ cls := "QuorumAlmanac", name := "hasOneLeaderATerm", desc := "()Z" } : Jvm.MethodName)) ∈ lw_tbl := lw_at lw_m2 87 rfl
theorem q372 : (Jvm.Cond.instanceMethod ({ cls := "QuorumAlmanac", name := "hasOneLeaderATerm", desc := "()Z" } : Jvm.MethodName)) ∈ lw_all := lw_g (lw_at lw_m2 88 rfl) rfl
theorem q373 : (Jvm.Cond.code ({ cls := "QuorumAlmanac", name := "hasOneLeaderATerm", desc := "()Z" } : Jvm.MethodName) prog_1_method_59_code (10 : Nat) (Option.some Jvm.ClassFile.FieldType.boolean)) ∈ lw_all := lw_g (lw_at lw_m2 89 rfl) rfl
theorem q374 : (Jvm.Cond.methodLink "QuorumAlmanac" (369 : Nat) ({ cls := "QuorumAlmanac", name := "doLogsMatch", desc := "()Z" } : Jvm.MethodName)) ∈ lw_all := lw_g (lw_at lw_m2 90 rfl) rfl
theorem q375 : (Jvm.Cond.privateMethod ({ cls := "QuorumAlmanac", name := "doLogsMatch", desc := "()Z" } : Jvm.MethodName)) ∈ lw_tbl := lw_at lw_m2 91 rfl
theorem q376 : (Jvm.Cond.instanceMethod ({ cls := "QuorumAlmanac", name := "doLogsMatch", desc := "()Z" } : Jvm.MethodName)) ∈ lw_all := lw_g (lw_at lw_m2 92 rfl) rfl
theorem q377 : (Jvm.Cond.code ({ cls := "QuorumAlmanac", name := "doLogsMatch", desc := "()Z" } : Jvm.MethodName) prog_1_method_60_code (13 : Nat) (Option.some Jvm.ClassFile.FieldType.boolean)) ∈ lw_all := lw_g (lw_at lw_m2 93 rfl) rfl
theorem q378 : (Jvm.Cond.classLink "QuorumAlmanac" (344 : Nat) "java/util/HashMap") ∈ lw_all := lw_g (lw_at lw_m2 94 rfl) rfl
theorem q380 : (Jvm.Cond.methodLink "QuorumAlmanac" (346 : Nat) ({ cls := "java/util/HashMap", name := "<init>", desc := "()V" } : Jvm.MethodName)) ∈ lw_all := lw_g (lw_at lw_m2 96 rfl) rfl
theorem q410 : (Jvm.Cond.methodLink "QuorumAlmanac" (181 : Nat) ({ cls := "QuorumAlmanac$Node", name := "entry", desc := "(I)LQuorumAlmanac$Entry;" } : Jvm.MethodName)) ∈ lw_all := lw_g (lw_at lw_m2 126 rfl) rfl
theorem q429 : (Jvm.Cond.classLink "QuorumAlmanac" (347 : Nat) "QuorumAlmanac$Place") ∈ lw_all := lw_g (lw_at lw_m2 145 rfl) rfl
theorem q431 : (Jvm.Cond.methodLink "QuorumAlmanac" (349 : Nat) ({ cls := "QuorumAlmanac$Place", name := "<init>", desc := "(II)V" } : Jvm.MethodName)) ∈ lw_all := lw_g (lw_at lw_m2 147 rfl) rfl
theorem q442 : (Jvm.Cond.methodLink "QuorumAlmanac" (350 : Nat) ({ cls := "java/util/HashMap", name := "putIfAbsent", desc := "(Ljava/lang/Object;Ljava/lang/Object;)Ljava/lang/Object;" } : Jvm.MethodName)) ∈ lw_all := lw_g (lw_at lw_m2 158 rfl) rfl
theorem q453 : (Jvm.Cond.selects "QuorumAlmanac" ({ cls := "java/lang/Object", name := "hashCode", desc := "()I" } : Jvm.MethodName) ({ cls := "java/lang/Object", name := "hashCode", desc := "()I" } : Jvm.MethodName)) ∈ lw_all := lw_g (lw_at lw_m2 169 rfl) rfl
theorem q558 : (Jvm.Cond.selects "QuorumAlmanac" ({ cls := "java/lang/Object", name := "getClass", desc := "()Ljava/lang/Class;" } : Jvm.MethodName) ({ cls := "java/lang/Object", name := "getClass", desc := "()Ljava/lang/Class;" } : Jvm.MethodName)) ∈ lw_all := lw_g (lw_at lw_m3 34 rfl) rfl
theorem q637 : (Jvm.Cond.selects "QuorumAlmanac" ({ cls := "java/lang/Object", name := "equals", desc := "(Ljava/lang/Object;)Z" } : Jvm.MethodName) ({ cls := "java/lang/Object", name := "equals", desc := "(Ljava/lang/Object;)Z" } : Jvm.MethodName)) ∈ lw_all := lw_g (lw_at lw_m3 113 rfl) rfl
theorem q742 : (Jvm.Cond.classLink "QuorumAlmanac" (88 : Nat) "QuorumAlmanac$Entry") ∈ lw_all := lw_g (lw_at lw_m3 218 rfl) rfl
theorem q743 : (Jvm.Cond.methodLink "QuorumAlmanac" (354 : Nat) ({ cls := "QuorumAlmanac$Node", name := "termAt", desc := "(I)I" } : Jvm.MethodName)) ∈ lw_all := lw_g (lw_at lw_m3 219 rfl) rfl
theorem q748 : (Jvm.Cond.methodLink "QuorumAlmanac" (357 : Nat) ({ cls := "java/lang/Integer", name := "valueOf", desc := "(I)Ljava/lang/Integer;" } : Jvm.MethodName)) ∈ lw_all := lw_g (lw_at lw_m3 224 rfl) rfl
theorem q767 : (Jvm.Cond.classLink "QuorumAlmanac" (358 : Nat) "java/lang/Integer") ∈ lw_all := lw_g (lw_at lw_m4 3 rfl) rfl
theorem q768 : (Jvm.Cond.methodLink "QuorumAlmanac" (90 : Nat) ({ cls := "QuorumAlmanac$Entry", name := "isLike", desc := "(LQuorumAlmanac$Entry;)Z" } : Jvm.MethodName)) ∈ lw_all := lw_g (lw_at lw_m4 4 rfl) rfl
theorem q772 : (Jvm.Cond.methodLink "QuorumAlmanac" (363 : Nat) ({ cls := "java/lang/Integer", name := "intValue", desc := "()I" } : Jvm.MethodName)) ∈ lw_all := lw_g (lw_at lw_m4 8 rfl) rfl
theorem q773 : (Jvm.Cond.methodLink "QuorumAlmanac" (372 : Nat) ({ cls := "QuorumAlmanac", name := "doAllKnowTheHistory", desc := "()Z" } : Jvm.MethodName)) ∈ lw_all := lw_g (lw_at lw_m4 9 rfl) rfl
theorem q774 : (Jvm.Cond.privateMethod ({ cls := "QuorumAlmanac", name := "doAllKnowTheHistory", desc := "()Z" } : Jvm.MethodName)) ∈ lw_tbl := lw_at lw_m4 10 rfl
theorem q775 : (Jvm.Cond.instanceMethod ({ cls := "QuorumAlmanac", name := "doAllKnowTheHistory", desc := "()Z" } : Jvm.MethodName)) ∈ lw_all := lw_g (lw_at lw_m4 11 rfl) rfl
theorem q776 : (Jvm.Cond.code ({ cls := "QuorumAlmanac", name := "doAllKnowTheHistory", desc := "()Z" } : Jvm.MethodName) prog_1_method_61_code (7 : Nat) (Option.some Jvm.ClassFile.FieldType.boolean)) ∈ lw_all := lw_g (lw_at lw_m4 12 rfl) rfl
theorem q777 : (Jvm.Cond.methodLink "QuorumAlmanac" (84 : Nat) ({ cls := "java/util/ArrayList", name := "get", desc := "(I)Ljava/lang/Object;" } : Jvm.MethodName)) ∈ lw_all := lw_g (lw_at lw_m4 13 rfl) rfl
theorem q867 : (Jvm.Cond.instanceMethod ({ cls := "QuorumAlmanac", name := "tick", desc := "(I)I" } : Jvm.MethodName)) ∈ lw_all := lw_g (lw_at lw_m4 103 rfl) rfl
theorem q868 : (Jvm.Cond.selects "QuorumAlmanac" ({ cls := "QuorumAlmanac", name := "tick", desc := "(I)I" } : Jvm.MethodName) ({ cls := "QuorumAlmanac", name := "tick", desc := "(I)I" } : Jvm.MethodName)) ∈ lw_all := lw_g (lw_at lw_m4 104 rfl) rfl
theorem q869 : (Jvm.Cond.code ({ cls := "QuorumAlmanac", name := "tick", desc := "(I)I" } : Jvm.MethodName) prog_1_method_13_code (7 : Nat) (Option.some Jvm.ClassFile.FieldType.int)) ∈ lw_all := lw_g (lw_at lw_m4 105 rfl) rfl
theorem q870 : (Jvm.Cond.methodLink "QuorumAlmanac" (119 : Nat) ({ cls := "QuorumAlmanac", name := "running", desc := "(I)LQuorumAlmanac$Node;" } : Jvm.MethodName)) ∈ lw_all := lw_g (lw_at lw_m4 106 rfl) rfl
theorem q871 : (Jvm.Cond.privateMethod ({ cls := "QuorumAlmanac", name := "running", desc := "(I)LQuorumAlmanac$Node;" } : Jvm.MethodName)) ∈ lw_tbl := lw_at lw_m4 107 rfl
theorem q872 : (Jvm.Cond.instanceMethod ({ cls := "QuorumAlmanac", name := "running", desc := "(I)LQuorumAlmanac$Node;" } : Jvm.MethodName)) ∈ lw_all := lw_g (lw_at lw_m4 108 rfl) rfl
theorem q873 : (Jvm.Cond.code ({ cls := "QuorumAlmanac", name := "running", desc := "(I)LQuorumAlmanac$Node;" } : Jvm.MethodName) prog_1_method_12_code (3 : Nat) (Option.some (Jvm.ClassFile.FieldType.object "QuorumAlmanac$Node"))) ∈ lw_all := lw_g (lw_at lw_m4 109 rfl) rfl
theorem q874 : (Jvm.Cond.methodLink "QuorumAlmanac" (109 : Nat) ({ cls := "QuorumAlmanac", name := "node", desc := "(I)LQuorumAlmanac$Node;" } : Jvm.MethodName)) ∈ lw_all := lw_g (lw_at lw_m4 110 rfl) rfl
theorem q875 : (Jvm.Cond.privateMethod ({ cls := "QuorumAlmanac", name := "node", desc := "(I)LQuorumAlmanac$Node;" } : Jvm.MethodName)) ∈ lw_tbl := lw_at lw_m4 111 rfl
theorem q876 : (Jvm.Cond.instanceMethod ({ cls := "QuorumAlmanac", name := "node", desc := "(I)LQuorumAlmanac$Node;" } : Jvm.MethodName)) ∈ lw_all := lw_g (lw_at lw_m4 112 rfl) rfl
theorem q877 : (Jvm.Cond.code ({ cls := "QuorumAlmanac", name := "node", desc := "(I)LQuorumAlmanac$Node;" } : Jvm.MethodName) prog_1_method_11_code (2 : Nat) (Option.some (Jvm.ClassFile.FieldType.object "QuorumAlmanac$Node"))) ∈ lw_all := lw_g (lw_at lw_m4 113 rfl) rfl
theorem q878 : (Jvm.Cond.methodLink "QuorumAlmanac" (101 : Nat) ({ cls := "QuorumAlmanac", name := "isBetween", desc := "(III)Z" } : Jvm.MethodName)) ∈ lw_all := lw_g (lw_at lw_m4 114 rfl) rfl
theorem q879 : (Jvm.Cond.static ({ cls := "QuorumAlmanac", name := "isBetween", desc := "(III)Z" } : Jvm.MethodName)) ∈ lw_all := lw_g (lw_at lw_m4 115 rfl) rfl
theorem q880 : (Jvm.Cond.code ({ cls := "QuorumAlmanac", name := "isBetween", desc := "(III)Z" } : Jvm.MethodName) prog_1_method_1_code (3 : Nat) (Option.some Jvm.ClassFile.FieldType.boolean)) ∈ lw_all := lw_g (lw_at lw_m4 116 rfl) rfl
theorem q881 : (Jvm.Cond.methodLink "QuorumAlmanac" (105 : Nat) ({ cls := "QuorumAlmanac", name := "requireIndex", desc := "(Z)V" } : Jvm.MethodName)) ∈ lw_all := lw_g (lw_at lw_m4 117 rfl) rfl
theorem q882 : (Jvm.Cond.static ({ cls := "QuorumAlmanac", name := "requireIndex", desc := "(Z)V" } : Jvm.MethodName)) ∈ lw_all := lw_g (lw_at lw_m4 118 rfl) rfl
theorem q883 : (Jvm.Cond.code ({ cls := "QuorumAlmanac", name := "requireIndex", desc := "(Z)V" } : Jvm.MethodName) prog_1_method_2_code (1 : Nat) (Option.none : Option Jvm.ClassFile.FieldType)) ∈ lw_all := lw_g (lw_at lw_m4 119 rfl) rfl
theorem q884 : (Jvm.Cond.classLink "QuorumAlmanac" (1 : Nat) "java/lang/IndexOutOfBoundsException") ∈ lw_all := lw_g (lw_at lw_m4 120 rfl) rfl
theorem q893 : (Jvm.Cond.methodLink "QuorumAlmanac" (3 : Nat) ({ cls := "java/lang/IndexOutOfBoundsException", name := "<init>", desc := "()V" } : Jvm.MethodName)) ∈ lw_all := lw_g (lw_at lw_m4 129 rfl) rfl
theorem q905 : (Jvm.Cond.methodLink "QuorumAlmanac" (116 : Nat) ({ cls := "QuorumAlmanac", name := "requireState", desc := "(Z)V" } : Jvm.MethodName)) ∈ lw_all := lw_g (lw_at lw_m4 141 rfl) rfl
theorem q906 : (Jvm.Cond.static ({ cls := "QuorumAlmanac", name := "requireState", desc := "(Z)V" } : Jvm.MethodName)) ∈ lw_all := lw_g (lw_at lw_m4 142 rfl) rfl
theorem q907 : (Jvm.Cond.code ({ cls := "QuorumAlmanac", name := "requireState", desc := "(Z)V" } : Jvm.MethodName) prog_1_method_4_code (1 : Nat) (Option.none : Option Jvm.ClassFile.FieldType)) ∈ lw_all := lw_g (lw_at lw_m4 143 rfl) rfl
theorem q908 : (Jvm.Cond.classLink "QuorumAlmanac" (10 : Nat) "java/lang/IllegalStateException") ∈ lw_all := lw_g (lw_at lw_m4 144 rfl) rfl
theorem q917 : (Jvm.Cond.methodLink "QuorumAlmanac" (12 : Nat) ({ cls := "java/lang/IllegalStateException", name := "<init>", desc := "()V" } : Jvm.MethodName)) ∈ lw_all := lw_g (lw_at lw_m4 153 rfl) rfl
theorem q923 : (Jvm.Cond.methodLink "QuorumAlmanac" (125 : Nat) ({ cls := "QuorumAlmanac$Node", name := "tick", desc := "()I" } : Jvm.MethodName)) ∈ lw_all := lw_g (lw_at lw_m4 159 rfl) rfl
theorem q986 : (Jvm.Cond.static ({ cls := "QuorumAlmanac", name := "isIn", desc := "(II)Z" } : Jvm.MethodName)) ∈ lw_all := lw_g (lw_at lw_m4 222 rfl) rfl
theorem q987 : (Jvm.Cond.code ({ cls := "QuorumAlmanac", name := "isIn", desc := "(II)Z" } : Jvm.MethodName) prog_1_method_6_code (2 : Nat) (Option.some Jvm.ClassFile.FieldType.boolean)) ∈ lw_all := lw_g (lw_at lw_m4 223 rfl) rfl
theorem q995 : (Jvm.Cond.privateMethod ({ cls := "QuorumAlmanac", name := "nextMessage", desc := "()I" } : Jvm.MethodName)) ∈ lw_tbl := lw_at lw_m4 231 rfl
theorem q996 : (Jvm.Cond.instanceMethod ({ cls := "QuorumAlmanac", name := "nextMessage", desc := "()I" } : Jvm.MethodName)) ∈ lw_all := lw_g (lw_at lw_m4 232 rfl) rfl
theorem q997 : (Jvm.Cond.code ({ cls := "QuorumAlmanac", name := "nextMessage", desc := "()I" } : Jvm.MethodName) prog_1_method_9_code (2 : Nat) (Option.some Jvm.ClassFile.FieldType.int)) ∈ lw_all := lw_g (lw_at lw_m4 233 rfl) rfl
theorem q1022 : (Jvm.Cond.fieldLink "QuorumAlmanac" (211 : Nat) "QuorumAlmanac$Message" "number" "I") ∈ lw_all := lw_g (lw_at lw_m5 18 rfl) rfl
theorem q1040 : (Jvm.Cond.fieldLink "QuorumAlmanac" (224 : Nat) "QuorumAlmanac$Message" "from" "I") ∈ lw_all := lw_g (lw_at lw_m5 36 rfl) rfl
theorem q1052 : (Jvm.Cond.fieldLink "QuorumAlmanac" (227 : Nat) "QuorumAlmanac$Message" "to" "I") ∈ lw_all := lw_g (lw_at lw_m5 48 rfl) rfl
theorem q1081 : (Jvm.Cond.privateMethod ({ cls := "QuorumAlmanac", name := "send", desc := "(LQuorumAlmanac$Message;)V" } : Jvm.MethodName)) ∈ lw_tbl := lw_at lw_m5 77 rfl
theorem q1082 : (Jvm.Cond.instanceMethod ({ cls := "QuorumAlmanac", name := "send", desc := "(LQuorumAlmanac$Message;)V" } : Jvm.MethodName)) ∈ lw_all := lw_g (lw_at lw_m5 78 rfl) rfl
theorem q1083 : (Jvm.Cond.code ({ cls := "QuorumAlmanac", name := "send", desc := "(LQuorumAlmanac$Message;)V" } : Jvm.MethodName) prog_1_method_10_code (2 : Nat) (Option.none : Option Jvm.ClassFile.FieldType)) ∈ lw_all := lw_g (lw_at lw_m5 79 rfl) rfl
theorem q1084 : (Jvm.Cond.methodLink "QuorumAlmanac" (80 : Nat) ({ cls := "java/util/ArrayList", name := "add", desc := "(Ljava/lang/Object;)Z" } : Jvm.MethodName)) ∈ lw_all := lw_g (lw_at lw_m5 80 rfl) rfl
theorem q1085 : (Jvm.Cond.methodLink "QuorumAlmanac" (98 : Nat) ({ cls := "java/util/ArrayList", name := "remove", desc := "(I)Ljava/lang/Object;" } : Jvm.MethodName)) ∈ lw_all := lw_g (lw_at lw_m5 81 rfl) rfl
theorem q1260 : (Jvm.Cond.fieldLink "QuorumAlmanac" (189 : Nat) "QuorumAlmanac$Entry" "term" "I") ∈ lw_all := lw_g (lw_at lw_m6 16 rfl) rfl
theorem q1264 : (Jvm.Cond.fieldLink "QuorumAlmanac" (192 : Nat) "QuorumAlmanac$Entry" "kind" "C") ∈ lw_all := lw_g (lw_at lw_m6 20 rfl) rfl
theorem q1284 : (Jvm.Cond.instanceMethod ({ cls := "QuorumAlmanac", name := "sync", desc := "(I)I" } : Jvm.MethodName)) ∈ lw_all := lw_g (lw_at lw_m6 40 rfl) rfl
theorem q1285 : (Jvm.Cond.selects "QuorumAlmanac" ({ cls := "QuorumAlmanac", name := "sync", desc := "(I)I" } : Jvm.MethodName) ({ cls := "QuorumAlmanac", name := "sync", desc := "(I)I" } : Jvm.MethodName)) ∈ lw_all := lw_g (lw_at lw_m6 41 rfl) rfl
theorem q1286 : (Jvm.Cond.code ({ cls := "QuorumAlmanac", name := "sync", desc := "(I)I" } : Jvm.MethodName) prog_1_method_14_code (2 : Nat) (Option.some Jvm.ClassFile.FieldType.int)) ∈ lw_all := lw_g (lw_at lw_m6 42 rfl) rfl
theorem q1287 : (Jvm.Cond.methodLink "QuorumAlmanac" (128 : Nat) ({ cls := "QuorumAlmanac$Node", name := "sync", desc := "()I" } : Jvm.MethodName)) ∈ lw_all := lw_g (lw_at lw_m6 43 rfl) rfl
theorem q1300 : (Jvm.Cond.privateMethod ({ cls := "QuorumAlmanac", name := "note", desc := "(ILQuorumAlmanac$Entry;)V" } : Jvm.MethodName)) ∈ lw_tbl := lw_at lw_m6 56 rfl
theorem q1301 : (Jvm.Cond.instanceMethod ({ cls := "QuorumAlmanac", name := "note", desc := "(ILQuorumAlmanac$Entry;)V" } : Jvm.MethodName)) ∈ lw_all := lw_g (lw_at lw_m6 57 rfl) rfl
theorem q1302 : (Jvm.Cond.code ({ cls := "QuorumAlmanac", name := "note", desc := "(ILQuorumAlmanac$Entry;)V" } : Jvm.MethodName) prog_1_method_8_code (3 : Nat) (Option.none : Option Jvm.ClassFile.FieldType)) ∈ lw_all := lw_g (lw_at lw_m6 58 rfl) rfl
theorem q1348 : (Jvm.Cond.instanceMethod ({ cls := "QuorumAlmanac", name := "crash", desc := "(I)I" } : Jvm.MethodName)) ∈ lw_all := lw_g (lw_at lw_m6 104 rfl) rfl
theorem q1349 : (Jvm.Cond.selects "QuorumAlmanac" ({ cls := "QuorumAlmanac", name := "crash", desc := "(I)I" } : Jvm.MethodName) ({ cls := "QuorumAlmanac", name := "crash", desc := "(I)I" } : Jvm.MethodName)) ∈ lw_all := lw_g (lw_at lw_m6 105 rfl) rfl
theorem q1350 : (Jvm.Cond.code ({ cls := "QuorumAlmanac", name := "crash", desc := "(I)I" } : Jvm.MethodName) prog_1_method_15_code (2 : Nat) (Option.some Jvm.ClassFile.FieldType.int)) ∈ lw_all := lw_g (lw_at lw_m6 106 rfl) rfl
theorem q1351 : (Jvm.Cond.methodLink "QuorumAlmanac" (131 : Nat) ({ cls := "QuorumAlmanac$Node", name := "crash", desc := "()I" } : Jvm.MethodName)) ∈ lw_all := lw_g (lw_at lw_m6 107 rfl) rfl
theorem q1370 : (Jvm.Cond.instanceMethod ({ cls := "QuorumAlmanac", name := "start", desc := "(I)I" } : Jvm.MethodName)) ∈ lw_all := lw_g (lw_at lw_m6 126 rfl) rfl
theorem q1371 : (Jvm.Cond.selects "QuorumAlmanac" ({ cls := "QuorumAlmanac", name := "start", desc := "(I)I" } : Jvm.MethodName) ({ cls := "QuorumAlmanac", name := "start", desc := "(I)I" } : Jvm.MethodName)) ∈ lw_all := lw_g (lw_at lw_m6 127 rfl) rfl
theorem q1372 : (Jvm.Cond.code ({ cls := "QuorumAlmanac", name := "start", desc := "(I)I" } : Jvm.MethodName) prog_1_method_16_code (3 : Nat) (Option.some Jvm.ClassFile.FieldType.int)) ∈ lw_all := lw_g (lw_at lw_m6 128 rfl) rfl
theorem q1373 : (Jvm.Cond.methodLink "QuorumAlmanac" (134 : Nat) ({ cls := "QuorumAlmanac$Node", name := "start", desc := "()I" } : Jvm.MethodName)) ∈ lw_all := lw_g (lw_at lw_m6 129 rfl) rfl
theorem q1382 : (Jvm.Cond.instanceMethod ({ cls := "QuorumAlmanac", name := "compact", desc := "(I)I" } : Jvm.MethodName)) ∈ lw_all := lw_g (lw_at lw_m6 138 rfl) rfl
theorem q1383 : (Jvm.Cond.selects "QuorumAlmanac" ({ cls := "QuorumAlmanac", name := "compact", desc := "(I)I" } : Jvm.MethodName) ({ cls := "QuorumAlmanac", name := "compact", desc := "(I)I" } : Jvm.MethodName)) ∈ lw_all := lw_g (lw_at lw_m6 139 rfl) rfl
theorem q1384 : (Jvm.Cond.code ({ cls := "QuorumAlmanac", name := "compact", desc := "(I)I" } : Jvm.MethodName) prog_1_method_17_code (3 : Nat) (Option.some Jvm.ClassFile.FieldType.int)) ∈ lw_all := lw_g (lw_at lw_m6 140 rfl) rfl
theorem q1385 : (Jvm.Cond.methodLink "QuorumAlmanac" (149 : Nat) ({ cls := "QuorumAlmanac$Node", name := "compact", desc := "()I" } : Jvm.MethodName)) ∈ lw_all := lw_g (lw_at lw_m6 141 rfl) rfl
theorem q1397 : (Jvm.Cond.instanceMethod ({ cls := "QuorumAlmanac", name := "role", desc := "(I)C" } : Jvm.MethodName)) ∈ lw_all := lw_g (lw_at lw_m6 153 rfl) rfl
theorem q1398 : (Jvm.Cond.selects "QuorumAlmanac" ({ cls := "QuorumAlmanac", name := "role", desc := "(I)C" } : Jvm.MethodName) ({ cls := "QuorumAlmanac", name := "role", desc := "(I)C" } : Jvm.MethodName)) ∈ lw_all := lw_g (lw_at lw_m6 154 rfl) rfl
theorem q1399 : (Jvm.Cond.code ({ cls := "QuorumAlmanac", name := "role", desc := "(I)C" } : Jvm.MethodName) prog_1_method_18_code (3 : Nat) (Option.some Jvm.ClassFile.FieldType.char)) ∈ lw_all := lw_g (lw_at lw_m6 155 rfl) rfl
theorem q1404 : (Jvm.Cond.instanceMethod ({ cls := "QuorumAlmanac", name := "term", desc := "(I)I" } : Jvm.MethodName)) ∈ lw_all := lw_g (lw_at lw_m6 160 rfl) rfl
theorem q1405 : (Jvm.Cond.selects "QuorumAlmanac" ({ cls := "QuorumAlmanac", name := "term", desc := "(I)I" } : Jvm.MethodName) ({ cls := "QuorumAlmanac", name := "term", desc := "(I)I" } : Jvm.MethodName)) ∈ lw_all := lw_g (lw_at lw_m6 161 rfl) rfl
theorem q1406 : (Jvm.Cond.code ({ cls := "QuorumAlmanac", name := "term", desc := "(I)I" } : Jvm.MethodName) prog_1_method_19_code (2 : Nat) (Option.some Jvm.ClassFile.FieldType.int)) ∈ lw_all := lw_g (lw_at lw_m6 162 rfl) rfl
theorem q1412 : (Jvm.Cond.instanceMethod ({ cls := "QuorumAlmanac", name := "vote", desc := "(I)I" } : Jvm.MethodName)) ∈ lw_all := lw_g (lw_at lw_m6 168 rfl) rfl
theorem q1413 : (Jvm.Cond.selects "QuorumAlmanac" ({ cls := "QuorumAlmanac", name := "vote", desc := "(I)I" } : Jvm.MethodName) ({ cls := "QuorumAlmanac", name := "vote", desc := "(I)I" } : Jvm.MethodName)) ∈ lw_all := lw_g (lw_at lw_m6 169 rfl) rfl
theorem q1414 : (Jvm.Cond.code ({ cls := "QuorumAlmanac", name := "vote", desc := "(I)I" } : Jvm.MethodName) prog_1_method_20_code (3 : Nat) (Option.some Jvm.ClassFile.FieldType.int)) ∈ lw_all := lw_g (lw_at lw_m6 170 rfl) rfl
theorem q1415 : (Jvm.Cond.methodLink "QuorumAlmanac" (164 : Nat) ({ cls := "QuorumAlmanac", name := "requireElement", desc := "(Z)V" } : Jvm.MethodName)) ∈ lw_all := lw_g (lw_at lw_m6 171 rfl) rfl
theorem q1416 : (Jvm.Cond.static ({ cls := "QuorumAlmanac", name := "requireElement", desc := "(Z)V" } : Jvm.MethodName)) ∈ lw_all := lw_g (lw_at lw_m6 172 rfl) rfl
theorem q1417 : (Jvm.Cond.code ({ cls := "QuorumAlmanac", name := "requireElement", desc := "(Z)V" } : Jvm.MethodName) prog_1_method_5_code (1 : Nat) (Option.none : Option Jvm.ClassFile.FieldType)) ∈ lw_all := lw_g (lw_at lw_m6 173 rfl) rfl
theorem q1418 : (Jvm.Cond.classLink "QuorumAlmanac" (13 : Nat) "java/util/NoSuchElementException") ∈ lw_all := lw_g (lw_at lw_m6 174 rfl) rfl
theorem q1419 : (Jvm.Cond.methodLink "QuorumAlmanac" (15 : Nat) ({ cls := "java/util/NoSuchElementException", name := "<init>", desc := "()V" } : Jvm.MethodName)) ∈ lw_all := lw_g (lw_at lw_m6 175 rfl) rfl
theorem q1424 : (Jvm.Cond.instanceMethod ({ cls := "QuorumAlmanac", name := "clock", desc := "(I)I" } : Jvm.MethodName)) ∈ lw_all := lw_g (lw_at lw_m6 180 rfl) rfl
theorem q1425 : (Jvm.Cond.selects "QuorumAlmanac" ({ cls := "QuorumAlmanac", name := "clock", desc := "(I)I" } : Jvm.MethodName) ({ cls := "QuorumAlmanac", name := "clock", desc := "(I)I" } : Jvm.MethodName)) ∈ lw_all := lw_g (lw_at lw_m6 181 rfl) rfl
theorem q1426 : (Jvm.Cond.code ({ cls := "QuorumAlmanac", name := "clock", desc := "(I)I" } : Jvm.MethodName) prog_1_method_21_code (2 : Nat) (Option.some Jvm.ClassFile.FieldType.int)) ∈ lw_all := lw_g (lw_at lw_m6 182 rfl) rfl
theorem q1431 : (Jvm.Cond.instanceMethod ({ cls := "QuorumAlmanac", name := "last", desc := "(I)I" } : Jvm.MethodName)) ∈ lw_all := lw_g (lw_at lw_m6 187 rfl) rfl
theorem q1432 : (Jvm.Cond.selects "QuorumAlmanac" ({ cls := "QuorumAlmanac", name := "last", desc := "(I)I" } : Jvm.MethodName) ({ cls := "QuorumAlmanac", name := "last", desc := "(I)I" } : Jvm.MethodName)) ∈ lw_all := lw_g (lw_at lw_m6 188 rfl) rfl
theorem q1433 : (Jvm.Cond.code ({ cls := "QuorumAlmanac", name := "last", desc := "(I)I" } : Jvm.MethodName) prog_1_method_22_code (2 : Nat) (Option.some Jvm.ClassFile.FieldType.int)) ∈ lw_all := lw_g (lw_at lw_m6 189 rfl) rfl
theorem q1438 : (Jvm.Cond.instanceMethod ({ cls := "QuorumAlmanac", name := "synced", desc := "(I)I" } : Jvm.MethodName)) ∈ lw_all := lw_g (lw_at lw_m6 194 rfl) rfl
theorem q1439 : (Jvm.Cond.selects "QuorumAlmanac" ({ cls := "QuorumAlmanac", name := "synced", desc := "(I)I" } : Jvm.MethodName) ({ cls := "QuorumAlmanac", name := "synced", desc := "(I)I" } : Jvm.MethodName)) ∈ lw_all := lw_g (lw_at lw_m6 195 rfl) rfl
theorem q1440 : (Jvm.Cond.code ({ cls := "QuorumAlmanac", name := "synced", desc := "(I)I" } : Jvm.MethodName) prog_1_method_23_code (2 : Nat) (Option.some Jvm.ClassFile.FieldType.int)) ∈ lw_all := lw_g (lw_at lw_m6 196 rfl) rfl
theorem q1445 : (Jvm.Cond.instanceMethod ({ cls := "QuorumAlmanac", name := "committed", desc := "(I)I" } : Jvm.MethodName)) ∈ lw_all := lw_g (lw_at lw_m6 201 rfl) rfl
theorem q1446 : (Jvm.Cond.selects "QuorumAlmanac" ({ cls := "QuorumAlmanac", name := "committed", desc := "(I)I" } : Jvm.MethodName) ({ cls := "QuorumAlmanac", name := "committed", desc := "(I)I" } : Jvm.MethodName)) ∈ lw_all := lw_g (lw_at lw_m6 202 rfl) rfl
theorem q1447 : (Jvm.Cond.code ({ cls := "QuorumAlmanac", name := "committed", desc := "(I)I" } : Jvm.MethodName) prog_1_method_24_code (2 : Nat) (Option.some Jvm.ClassFile.FieldType.int)) ∈ lw_all := lw_g (lw_at lw_m6 203 rfl) rfl
theorem q1452 : (Jvm.Cond.instanceMethod ({ cls := "QuorumAlmanac", name := "snapshot", desc := "(I)I" } : Jvm.MethodName)) ∈ lw_all := lw_g (lw_at lw_m6 208 rfl) rfl
theorem q1453 : (Jvm.Cond.selects "QuorumAlmanac" ({ cls := "QuorumAlmanac", name := "snapshot", desc := "(I)I" } : Jvm.MethodName) ({ cls := "QuorumAlmanac", name := "snapshot", desc := "(I)I" } : Jvm.MethodName)) ∈ lw_all := lw_g (lw_at lw_m6 209 rfl) rfl
theorem q1454 : (Jvm.Cond.code ({ cls := "QuorumAlmanac", name := "snapshot", desc := "(I)I" } : Jvm.MethodName) prog_1_method_25_code (2 : Nat) (Option.some Jvm.ClassFile.FieldType.int)) ∈ lw_all := lw_g (lw_at lw_m6 210 rfl) rfl
theorem q1459 : (Jvm.Cond.instanceMethod ({ cls := "QuorumAlmanac", name := "members", desc := "(I)I" } : Jvm.MethodName)) ∈ lw_all := lw_g (lw_at lw_m6 215 rfl) rfl
theorem q1460 : (Jvm.Cond.selects "QuorumAlmanac" ({ cls := "QuorumAlmanac", name := "members", desc := "(I)I" } : Jvm.MethodName) ({ cls := "QuorumAlmanac", name := "members", desc := "(I)I" } : Jvm.MethodName)) ∈ lw_all := lw_g (lw_at lw_m6 216 rfl) rfl
theorem q1461 : (Jvm.Cond.code ({ cls := "QuorumAlmanac", name := "members", desc := "(I)I" } : Jvm.MethodName) prog_1_method_26_code (2 : Nat) (Option.some Jvm.ClassFile.FieldType.int)) ∈ lw_all := lw_g (lw_at lw_m6 217 rfl) rfl
theorem q1462 : (Jvm.Cond.methodLink "QuorumAlmanac" (170 : Nat) ({ cls := "QuorumAlmanac$Node", name := "members", desc := "()LQuorumAlmanac$Members;" } : Jvm.MethodName)) ∈ lw_all := lw_g (lw_at lw_m6 218 rfl) rfl
theorem q1463 : (Jvm.Cond.methodLink "QuorumAlmanac" (174 : Nat) ({ cls := "QuorumAlmanac$Members", name := "all", desc := "()I" } : Jvm.MethodName)) ∈ lw_all := lw_g (lw_at lw_m6 219 rfl) rfl
theorem q1468 : (Jvm.Cond.instanceMethod ({ cls := "QuorumAlmanac", name := "entryTerm", desc := "(II)I" } : Jvm.MethodName)) ∈ lw_all := lw_g (lw_at lw_m6 224 rfl) rfl
theorem q1469 : (Jvm.Cond.selects "QuorumAlmanac" ({ cls := "QuorumAlmanac", name := "entryTerm", desc := "(II)I" } : Jvm.MethodName) ({ cls := "QuorumAlmanac", name := "entryTerm", desc := "(II)I" } : Jvm.MethodName)) ∈ lw_all := lw_g (lw_at lw_m6 225 rfl) rfl
theorem q1470 : (Jvm.Cond.code ({ cls := "QuorumAlmanac", name := "entryTerm", desc := "(II)I" } : Jvm.MethodName) prog_1_method_28_code (3 : Nat) (Option.some Jvm.ClassFile.FieldType.int)) ∈ lw_all := lw_g (lw_at lw_m6 226 rfl) rfl
theorem q1471 : (Jvm.Cond.methodLink "QuorumAlmanac" (185 : Nat) ({ cls := "QuorumAlmanac", name := "entryOf", desc := "(II)LQuorumAlmanac$Entry;" } : Jvm.MethodName)) ∈ lw_all := lw_g (lw_at lw_m6 227 rfl) rfl
theorem q1472 : (Jvm.Cond.privateMethod ({ cls := "QuorumAlmanac", name := "entryOf", desc := "(II)LQuorumAlmanac$Entry;" } : Jvm.MethodName)) ∈ lw_tbl := lw_at lw_m6 228 rfl
theorem q1473 : (Jvm.Cond.instanceMethod ({ cls := "QuorumAlmanac", name := "entryOf", desc := "(II)LQuorumAlmanac$Entry;" } : Jvm.MethodName)) ∈ lw_all := lw_g (lw_at lw_m6 229 rfl) rfl
theorem q1474 : (Jvm.Cond.code ({ cls := "QuorumAlmanac", name := "entryOf", desc := "(II)LQuorumAlmanac$Entry;" } : Jvm.MethodName) prog_1_method_27_code (4 : Nat) (Option.some (Jvm.ClassFile.FieldType.object "QuorumAlmanac$Entry"))) ∈ lw_all := lw_g (lw_at lw_m6 230 rfl) rfl
theorem q1475 : (Jvm.Cond.methodLink "QuorumAlmanac" (177 : Nat) ({ cls := "QuorumAlmanac$Node", name := "has", desc := "(I)Z" } : Jvm.MethodName)) ∈ lw_all := lw_g (lw_at lw_m6 231 rfl) rfl
theorem q1480 : (Jvm.Cond.instanceMethod ({ cls := "QuorumAlmanac", name := "entryKind", desc := "(II)C" } : Jvm.MethodName)) ∈ lw_all := lw_g (lw_at lw_m6 236 rfl) rfl
theorem q1481 : (Jvm.Cond.selects "QuorumAlmanac" ({ cls := "QuorumAlmanac", name := "entryKind", desc := "(II)C" } : Jvm.MethodName) ({ cls := "QuorumAlmanac", name := "entryKind", desc := "(II)C" } : Jvm.MethodName)) ∈ lw_all := lw_g (lw_at lw_m6 237 rfl) rfl
theorem q1482 : (Jvm.Cond.code ({ cls := "QuorumAlmanac", name := "entryKind", desc := "(II)C" } : Jvm.MethodName) prog_1_method_29_code (3 : Nat) (Option.some Jvm.ClassFile.FieldType.char)) ∈ lw_all := lw_g (lw_at lw_m6 238 rfl) rfl
theorem q1487 : (Jvm.Cond.instanceMethod ({ cls := "QuorumAlmanac", name := "earliest", desc := "()I" } : Jvm.MethodName)) ∈ lw_all := lw_g (lw_at lw_m7 3 rfl) rfl
theorem q1488 : (Jvm.Cond.selects "QuorumAlmanac" ({ cls := "QuorumAlmanac", name := "earliest", desc := "()I" } : Jvm.MethodName) ({ cls := "QuorumAlmanac", name := "earliest", desc := "()I" } : Jvm.MethodName)) ∈ lw_all := lw_g (lw_at lw_m7 4 rfl) rfl
theorem q1489 : (Jvm.Cond.code ({ cls := "QuorumAlmanac", name := "earliest", desc := "()I" } : Jvm.MethodName) prog_1_method_32_code (1 : Nat) (Option.some Jvm.ClassFile.FieldType.int)) ∈ lw_all := lw_g (lw_at lw_m7 5 rfl) rfl
theorem q1490 : (Jvm.Cond.methodLink "QuorumAlmanac" (214 : Nat) ({ cls := "java/util/ArrayList", name := "isEmpty", desc := "()Z" } : Jvm.MethodName)) ∈ lw_all := lw_g (lw_at lw_m7 6 rfl) rfl
theorem q1494 : (Jvm.Cond.classLink "QuorumAlmanac" (209 : Nat) "QuorumAlmanac$Message") ∈ lw_all := lw_g (lw_at lw_m7 10 rfl) rfl
theorem q1499 : (Jvm.Cond.instanceMethod ({ cls := "QuorumAlmanac", name := "kindOf", desc := "(I)C" } : Jvm.MethodName)) ∈ lw_all := lw_g (lw_at lw_m7 15 rfl) rfl
theorem q1500 : (Jvm.Cond.selects "QuorumAlmanac" ({ cls := "QuorumAlmanac", name := "kindOf", desc := "(I)C" } : Jvm.MethodName) ({ cls := "QuorumAlmanac", name := "kindOf", desc := "(I)C" } : Jvm.MethodName)) ∈ lw_all := lw_g (lw_at lw_m7 16 rfl) rfl
theorem q1501 : (Jvm.Cond.code ({ cls := "QuorumAlmanac", name := "kindOf", desc := "(I)C" } : Jvm.MethodName) prog_1_method_33_code (2 : Nat) (Option.some Jvm.ClassFile.FieldType.char)) ∈ lw_all := lw_g (lw_at lw_m7 17 rfl) rfl
theorem q1502 : (Jvm.Cond.methodLink "QuorumAlmanac" (217 : Nat) ({ cls := "QuorumAlmanac", name := "message", desc := "(I)LQuorumAlmanac$Message;" } : Jvm.MethodName)) ∈ lw_all := lw_g (lw_at lw_m7 18 rfl) rfl
theorem q1503 : (Jvm.Cond.privateMethod ({ cls := "QuorumAlmanac", name := "message", desc := "(I)LQuorumAlmanac$Message;" } : Jvm.MethodName)) ∈ lw_tbl := lw_at lw_m7 19 rfl
theorem q1504 : (Jvm.Cond.instanceMethod ({ cls := "QuorumAlmanac", name := "message", desc := "(I)LQuorumAlmanac$Message;" } : Jvm.MethodName)) ∈ lw_all := lw_g (lw_at lw_m7 20 rfl) rfl
theorem q1505 : (Jvm.Cond.code ({ cls := "QuorumAlmanac", name := "message", desc := "(I)LQuorumAlmanac$Message;" } : Jvm.MethodName) prog_1_method_30_code (5 : Nat) (Option.some (Jvm.ClassFile.FieldType.object "QuorumAlmanac$Message"))) ∈ lw_all := lw_g (lw_at lw_m7 21 rfl) rfl
theorem q1506 : (Jvm.Cond.methodLink "QuorumAlmanac" (195 : Nat) ({ cls := "java/util/ArrayList", name := "iterator", desc := "()Ljava/util/Iterator;" } : Jvm.MethodName)) ∈ lw_all := lw_g (lw_at lw_m7 22 rfl) rfl
theorem q1507 : (Jvm.Cond.interfaceEntry "QuorumAlmanac" (199 : Nat)) ∈ lw_tbl := lw_at lw_m7 23 rfl
theorem q1508 : (Jvm.Cond.methodLink "QuorumAlmanac" (199 : Nat) ({ cls := "java/util/Iterator", name := "hasNext", desc := "()Z" } : Jvm.MethodName)) ∈ lw_all := lw_g (lw_at lw_m7 24 rfl) rfl
theorem q1509 : (Jvm.Cond.interfaceEntry "QuorumAlmanac" (205 : Nat)) ∈ lw_tbl := lw_at lw_m7 25 rfl
theorem q1510 : (Jvm.Cond.methodLink "QuorumAlmanac" (205 : Nat) ({ cls := "java/util/Iterator", name := "next", desc := "()Ljava/lang/Object;" } : Jvm.MethodName)) ∈ lw_all := lw_g (lw_at lw_m7 26 rfl) rfl
theorem q1511 : (Jvm.Cond.methodLink "QuorumAlmanac" (221 : Nat) ({ cls := "QuorumAlmanac$Message", name := "kind", desc := "()C" } : Jvm.MethodName)) ∈ lw_all := lw_g (lw_at lw_m7 27 rfl) rfl
theorem q1533 : (Jvm.Cond.instanceMethod ({ cls := "QuorumAlmanac", name := "between", desc := "(I)I" } : Jvm.MethodName)) ∈ lw_all := lw_g (lw_at lw_m7 49 rfl) rfl
theorem q1534 : (Jvm.Cond.selects "QuorumAlmanac" ({ cls := "QuorumAlmanac", name := "between", desc := "(I)I" } : Jvm.MethodName) ({ cls := "QuorumAlmanac", name := "between", desc := "(I)I" } : Jvm.MethodName)) ∈ lw_all := lw_g (lw_at lw_m7 50 rfl) rfl
theorem q1535 : (Jvm.Cond.code ({ cls := "QuorumAlmanac", name := "between", desc := "(I)I" } : Jvm.MethodName) prog_1_method_34_code (3 : Nat) (Option.some Jvm.ClassFile.FieldType.int)) ∈ lw_all := lw_g (lw_at lw_m7 51 rfl) rfl
theorem q1540 : (Jvm.Cond.instanceMethod ({ cls := "QuorumAlmanac", name := "deliver", desc := "(I)I" } : Jvm.MethodName)) ∈ lw_all := lw_g (lw_at lw_m7 56 rfl) rfl
theorem q1541 : (Jvm.Cond.selects "QuorumAlmanac" ({ cls := "QuorumAlmanac", name := "deliver", desc := "(I)I" } : Jvm.MethodName) ({ cls := "QuorumAlmanac", name := "deliver", desc := "(I)I" } : Jvm.MethodName)) ∈ lw_all := lw_g (lw_at lw_m7 57 rfl) rfl
theorem q1542 : (Jvm.Cond.code ({ cls := "QuorumAlmanac", name := "deliver", desc := "(I)I" } : Jvm.MethodName) prog_1_method_35_code (6 : Nat) (Option.some Jvm.ClassFile.FieldType.int)) ∈ lw_all := lw_g (lw_at lw_m7 58 rfl) rfl
theorem q1543 : (Jvm.Cond.methodLink "QuorumAlmanac" (230 : Nat) ({ cls := "java/util/ArrayList", name := "remove", desc := "(Ljava/lang/Object;)Z" } : Jvm.MethodName)) ∈ lw_all := lw_g (lw_at lw_m7 59 rfl) rfl
theorem q1548 : (Jvm.Cond.methodLink "QuorumAlmanac" (236 : Nat) ({ cls := "QuorumAlmanac$Message", name := "come", desc := "(LQuorumAlmanac$Node;)V" } : Jvm.MethodName)) ∈ lw_all := lw_g (lw_at lw_m7 64 rfl) rfl
theorem q1695 : (Jvm.Cond.instanceMethod ({ cls := "QuorumAlmanac", name := "lose", desc := "(I)I" } : Jvm.MethodName)) ∈ lw_all := lw_g (lw_at lw_m7 211 rfl) rfl
theorem q1696 : (Jvm.Cond.selects "QuorumAlmanac" ({ cls := "QuorumAlmanac", name := "lose", desc := "(I)I" } : Jvm.MethodName) ({ cls := "QuorumAlmanac", name := "lose", desc := "(I)I" } : Jvm.MethodName)) ∈ lw_all := lw_g (lw_at lw_m7 212 rfl) rfl
theorem q1697 : (Jvm.Cond.code ({ cls := "QuorumAlmanac", name := "lose", desc := "(I)I" } : Jvm.MethodName) prog_1_method_36_code (2 : Nat) (Option.some Jvm.ClassFile.FieldType.int)) ∈ lw_all := lw_g (lw_at lw_m7 213 rfl) rfl
theorem q1702 : (Jvm.Cond.instanceMethod ({ cls := "QuorumAlmanac", name := "copy", desc := "(I)I" } : Jvm.MethodName)) ∈ lw_all := lw_g (lw_at lw_m7 218 rfl) rfl
theorem q1703 : (Jvm.Cond.selects "QuorumAlmanac" ({ cls := "QuorumAlmanac", name := "copy", desc := "(I)I" } : Jvm.MethodName) ({ cls := "QuorumAlmanac", name := "copy", desc := "(I)I" } : Jvm.MethodName)) ∈ lw_all := lw_g (lw_at lw_m7 219 rfl) rfl
theorem q1704 : (Jvm.Cond.code ({ cls := "QuorumAlmanac", name := "copy", desc := "(I)I" } : Jvm.MethodName) prog_1_method_37_code (4 : Nat) (Option.some Jvm.ClassFile.FieldType.int)) ∈ lw_all := lw_g (lw_at lw_m7 220 rfl) rfl
theorem q1705 : (Jvm.Cond.methodLink "QuorumAlmanac" (240 : Nat) ({ cls := "QuorumAlmanac", name := "nextMessage", desc := "()I" } : Jvm.MethodName)) ∈ lw_all := lw_g (lw_at lw_m7 221 rfl) rfl
theorem q1706 : (Jvm.Cond.methodLink "QuorumAlmanac" (243 : Nat) ({ cls := "QuorumAlmanac$Message", name := "copy", desc := "(I)LQuorumAlmanac$Message;" } : Jvm.MethodName)) ∈ lw_all := lw_g (lw_at lw_m7 222 rfl) rfl
theorem q1734 : (Jvm.Cond.methodLink "QuorumAlmanac" (246 : Nat) ({ cls := "QuorumAlmanac", name := "send", desc := "(LQuorumAlmanac$Message;)V" } : Jvm.MethodName)) ∈ lw_all := lw_g (lw_at lw_m8 10 rfl) rfl
theorem q1740 : (Jvm.Cond.instanceMethod ({ cls := "QuorumAlmanac", name := "write", desc := "(III)I" } : Jvm.MethodName)) ∈ lw_all := lw_g (lw_at lw_m8 16 rfl) rfl
theorem q1741 : (Jvm.Cond.selects "QuorumAlmanac" ({ cls := "QuorumAlmanac", name := "write", desc := "(III)I" } : Jvm.MethodName) ({ cls := "QuorumAlmanac", name := "write", desc := "(III)I" } : Jvm.MethodName)) ∈ lw_all := lw_g (lw_at lw_m8 17 rfl) rfl
theorem q1742 : (Jvm.Cond.code ({ cls := "QuorumAlmanac", name := "write", desc := "(III)I" } : Jvm.MethodName) prog_1_method_40_code (5 : Nat) (Option.some Jvm.ClassFile.FieldType.int)) ∈ lw_all := lw_g (lw_at lw_m8 18 rfl) rfl
theorem q1743 : (Jvm.Cond.methodLink "QuorumAlmanac" (263 : Nat) ({ cls := "QuorumAlmanac", name := "requireArgument", desc := "(Z)V" } : Jvm.MethodName)) ∈ lw_all := lw_g (lw_at lw_m8 19 rfl) rfl
theorem q1744 : (Jvm.Cond.static ({ cls := "QuorumAlmanac", name := "requireArgument", desc := "(Z)V" } : Jvm.MethodName)) ∈ lw_all := lw_g (lw_at lw_m8 20 rfl) rfl
theorem q1745 : (Jvm.Cond.code ({ cls := "QuorumAlmanac", name := "requireArgument", desc := "(Z)V" } : Jvm.MethodName) prog_1_method_3_code (1 : Nat) (Option.none : Option Jvm.ClassFile.FieldType)) ∈ lw_all := lw_g (lw_at lw_m8 21 rfl) rfl
theorem q1746 : (Jvm.Cond.classLink "QuorumAlmanac" (7 : Nat) "java/lang/IllegalArgumentException") ∈ lw_all := lw_g (lw_at lw_m8 22 rfl) rfl
theorem q1747 : (Jvm.Cond.methodLink "QuorumAlmanac" (9 : Nat) ({ cls := "java/lang/IllegalArgumentException", name := "<init>", desc := "()V" } : Jvm.MethodName)) ∈ lw_all := lw_g (lw_at lw_m8 23 rfl) rfl
theorem q1748 : (Jvm.Cond.methodLink "QuorumAlmanac" (266 : Nat) ({ cls := "QuorumAlmanac", name := "leader", desc := "(I)LQuorumAlmanac$Node;" } : Jvm.MethodName)) ∈ lw_all := lw_g (lw_at lw_m8 24 rfl) rfl
theorem q1749 : (Jvm.Cond.privateMethod ({ cls := "QuorumAlmanac", name := "leader", desc := "(I)LQuorumAlmanac$Node;" } : Jvm.MethodName)) ∈ lw_tbl := lw_at lw_m8 25 rfl
theorem q1750 : (Jvm.Cond.instanceMethod ({ cls := "QuorumAlmanac", name := "leader", desc := "(I)LQuorumAlmanac$Node;" } : Jvm.MethodName)) ∈ lw_all := lw_g (lw_at lw_m8 26 rfl) rfl
theorem q1751 : (Jvm.Cond.code ({ cls := "QuorumAlmanac", name := "leader", desc := "(I)LQuorumAlmanac$Node;" } : Jvm.MethodName) prog_1_method_38_code (3 : Nat) (Option.some (Jvm.ClassFile.FieldType.object "QuorumAlmanac$Node"))) ∈ lw_all := lw_g (lw_at lw_m8 27 rfl) rfl
theorem q1752 : (Jvm.Cond.methodLink "QuorumAlmanac" (269 : Nat) ({ cls := "QuorumAlmanac", name := "propose", desc := "(LQuorumAlmanac$Node;CII)I" } : Jvm.MethodName)) ∈ lw_all := lw_g (lw_at lw_m8 28 rfl) rfl
theorem q1753 : (Jvm.Cond.privateMethod ({ cls := "QuorumAlmanac", name := "propose", desc := "(LQuorumAlmanac$Node;CII)I" } : Jvm.MethodName)) ∈ lw_tbl := lw_at lw_m8 29 rfl
theorem q1754 : (Jvm.Cond.instanceMethod ({ cls := "QuorumAlmanac", name := "propose", desc := "(LQuorumAlmanac$Node;CII)I" } : Jvm.MethodName)) ∈ lw_all := lw_g (lw_at lw_m8 30 rfl) rfl
theorem q1755 : (Jvm.Cond.code ({ cls := "QuorumAlmanac", name := "propose", desc := "(LQuorumAlmanac$Node;CII)I" } : Jvm.MethodName) prog_1_method_39_code (6 : Nat) (Option.some Jvm.ClassFile.FieldType.int)) ∈ lw_all := lw_g (lw_at lw_m8 31 rfl) rfl
theorem q1756 : (Jvm.Cond.methodLink "QuorumAlmanac" (254 : Nat) ({ cls := "QuorumAlmanac$Entry", name := "<init>", desc := "(ICII)V" } : Jvm.MethodName)) ∈ lw_all := lw_g (lw_at lw_m8 32 rfl) rfl
theorem q1757 : (Jvm.Cond.methodLink "QuorumAlmanac" (260 : Nat) ({ cls := "QuorumAlmanac$Node", name := "beginRound", desc := "()V" } : Jvm.MethodName)) ∈ lw_all := lw_g (lw_at lw_m8 33 rfl) rfl
theorem q1762 : (Jvm.Cond.instanceMethod ({ cls := "QuorumAlmanac", name := "reshape", desc := "(IIZ)I" } : Jvm.MethodName)) ∈ lw_all := lw_g (lw_at lw_m8 38 rfl) rfl
theorem q1763 : (Jvm.Cond.selects "QuorumAlmanac" ({ cls := "QuorumAlmanac", name := "reshape", desc := "(IIZ)I" } : Jvm.MethodName) ({ cls := "QuorumAlmanac", name := "reshape", desc := "(IIZ)I" } : Jvm.MethodName)) ∈ lw_all := lw_g (lw_at lw_m8 39 rfl) rfl
theorem q1764 : (Jvm.Cond.code ({ cls := "QuorumAlmanac", name := "reshape", desc := "(IIZ)I" } : Jvm.MethodName) prog_1_method_41_code (5 : Nat) (Option.some Jvm.ClassFile.FieldType.int)) ∈ lw_all := lw_g (lw_at lw_m8 40 rfl) rfl
theorem q1770 : (Jvm.Cond.instanceMethod ({ cls := "QuorumAlmanac", name := "change", desc := "(II)I" } : Jvm.MethodName)) ∈ lw_all := lw_g (lw_at lw_m8 46 rfl) rfl
theorem q1771 : (Jvm.Cond.selects "QuorumAlmanac" ({ cls := "QuorumAlmanac", name := "change", desc := "(II)I" } : Jvm.MethodName) ({ cls := "QuorumAlmanac", name := "change", desc := "(II)I" } : Jvm.MethodName)) ∈ lw_all := lw_g (lw_at lw_m8 47 rfl) rfl
theorem q1772 : (Jvm.Cond.code ({ cls := "QuorumAlmanac", name := "change", desc := "(II)I" } : Jvm.MethodName) prog_1_method_42_code (6 : Nat) (Option.some Jvm.ClassFile.FieldType.int)) ∈ lw_all := lw_g (lw_at lw_m8 48 rfl) rfl
theorem q1773 : (Jvm.Cond.methodLink "QuorumAlmanac" (273 : Nat) ({ cls := "QuorumAlmanac$Members", name := "areTwo", desc := "()Z" } : Jvm.MethodName)) ∈ lw_all := lw_g (lw_at lw_m8 49 rfl) rfl
theorem q1774 : (Jvm.Cond.methodLink "QuorumAlmanac" (276 : Nat) ({ cls := "QuorumAlmanac$Node", name := "hasCommittedOwn", desc := "()Z" } : Jvm.MethodName)) ∈ lw_all := lw_g (lw_at lw_m8 50 rfl) rfl
theorem q1775 : (Jvm.Cond.classLink "QuorumAlmanac" (279 : Nat) "java/lang/UnsupportedOperationException") ∈ lw_all := lw_g (lw_at lw_m8 51 rfl) rfl
theorem q1784 : (Jvm.Cond.methodLink "QuorumAlmanac" (281 : Nat) ({ cls := "java/lang/UnsupportedOperationException", name := "<init>", desc := "()V" } : Jvm.MethodName)) ∈ lw_all := lw_g (lw_at lw_m8 60 rfl) rfl
theorem q1794 : (Jvm.Cond.instanceMethod ({ cls := "QuorumAlmanac", name := "hasLease", desc := "(I)Z" } : Jvm.MethodName)) ∈ lw_all := lw_g (lw_at lw_m8 70 rfl) rfl
theorem q1795 : (Jvm.Cond.selects "QuorumAlmanac" ({ cls := "QuorumAlmanac", name := "hasLease", desc := "(I)Z" } : Jvm.MethodName) ({ cls := "QuorumAlmanac", name := "hasLease", desc := "(I)Z" } : Jvm.MethodName)) ∈ lw_all := lw_g (lw_at lw_m8 71 rfl) rfl
theorem q1796 : (Jvm.Cond.code ({ cls := "QuorumAlmanac", name := "hasLease", desc := "(I)Z" } : Jvm.MethodName) prog_1_method_44_code (2 : Nat) (Option.some Jvm.ClassFile.FieldType.boolean)) ∈ lw_all := lw_g (lw_at lw_m8 72 rfl) rfl
theorem q1797 : (Jvm.Cond.methodLink "QuorumAlmanac" (285 : Nat) ({ cls := "QuorumAlmanac$Node", name := "hasLease", desc := "()Z" } : Jvm.MethodName)) ∈ lw_all := lw_g (lw_at lw_m8 73 rfl) rfl
theorem q1802 : (Jvm.Cond.instanceMethod ({ cls := "QuorumAlmanac", name := "readByLease", desc := "(II)I" } : Jvm.MethodName)) ∈ lw_all := lw_g (lw_at lw_m8 78 rfl) rfl
theorem q1803 : (Jvm.Cond.selects "QuorumAlmanac" ({ cls := "QuorumAlmanac", name := "readByLease", desc := "(II)I" } : Jvm.MethodName) ({ cls := "QuorumAlmanac", name := "readByLease", desc := "(II)I" } : Jvm.MethodName)) ∈ lw_all := lw_g (lw_at lw_m8 79 rfl) rfl
theorem q1804 : (Jvm.Cond.code ({ cls := "QuorumAlmanac", name := "readByLease", desc := "(II)I" } : Jvm.MethodName) prog_1_method_45_code (4 : Nat) (Option.some Jvm.ClassFile.FieldType.int)) ∈ lw_all := lw_g (lw_at lw_m8 80 rfl) rfl
theorem q1805 : (Jvm.Cond.methodLink "QuorumAlmanac" (288 : Nat) ({ cls := "QuorumAlmanac", name := "requireKey", desc := "(I)V" } : Jvm.MethodName)) ∈ lw_all := lw_g (lw_at lw_m8 81 rfl) rfl
theorem q1806 : (Jvm.Cond.static ({ cls := "QuorumAlmanac", name := "requireKey", desc := "(I)V" } : Jvm.MethodName)) ∈ lw_all := lw_g (lw_at lw_m8 82 rfl) rfl
theorem q1807 : (Jvm.Cond.code ({ cls := "QuorumAlmanac", name := "requireKey", desc := "(I)V" } : Jvm.MethodName) prog_1_method_43_code (1 : Nat) (Option.none : Option Jvm.ClassFile.FieldType)) ∈ lw_all := lw_g (lw_at lw_m8 83 rfl) rfl
theorem q1812 : (Jvm.Cond.instanceMethod ({ cls := "QuorumAlmanac", name := "askRead", desc := "(II)I" } : Jvm.MethodName)) ∈ lw_all := lw_g (lw_at lw_m8 88 rfl) rfl
theorem q1813 : (Jvm.Cond.selects "QuorumAlmanac" ({ cls := "QuorumAlmanac", name := "askRead", desc := "(II)I" } : Jvm.MethodName) ({ cls := "QuorumAlmanac", name := "askRead", desc := "(II)I" } : Jvm.MethodName)) ∈ lw_all := lw_g (lw_at lw_m8 89 rfl) rfl
theorem q1814 : (Jvm.Cond.code ({ cls := "QuorumAlmanac", name := "askRead", desc := "(II)I" } : Jvm.MethodName) prog_1_method_46_code (7 : Nat) (Option.some Jvm.ClassFile.FieldType.int)) ∈ lw_all := lw_g (lw_at lw_m8 90 rfl) rfl
theorem q1815 : (Jvm.Cond.classLink "QuorumAlmanac" (302 : Nat) "QuorumAlmanac$Read") ∈ lw_all := lw_g (lw_at lw_m8 91 rfl) rfl
theorem q1817 : (Jvm.Cond.methodLink "QuorumAlmanac" (310 : Nat) ({ cls := "QuorumAlmanac$Read", name := "<init>", desc := "(IIIII)V" } : Jvm.MethodName)) ∈ lw_all := lw_g (lw_at lw_m8 93 rfl) rfl
theorem q1832 : (Jvm.Cond.fieldLink "QuorumAlmanac" (304 : Nat) "QuorumAlmanac$Read" "state" "C") ∈ lw_all := lw_g (lw_at lw_m8 108 rfl) rfl
theorem q1834 : (Jvm.Cond.fieldLink "QuorumAlmanac" (317 : Nat) "QuorumAlmanac$Read" "value" "I") ∈ lw_all := lw_g (lw_at lw_m8 110 rfl) rfl
theorem q1854 : (Jvm.Cond.instanceMethod ({ cls := "QuorumAlmanac", name := "readState", desc := "(I)C" } : Jvm.MethodName)) ∈ lw_all := lw_g (lw_at lw_m8 130 rfl) rfl
theorem q1855 : (Jvm.Cond.selects "QuorumAlmanac" ({ cls := "QuorumAlmanac", name := "readState", desc := "(I)C" } : Jvm.MethodName) ({ cls := "QuorumAlmanac", name := "readState", desc := "(I)C" } : Jvm.MethodName)) ∈ lw_all := lw_g (lw_at lw_m8 131 rfl) rfl
theorem q1856 : (Jvm.Cond.code ({ cls := "QuorumAlmanac", name := "readState", desc := "(I)C" } : Jvm.MethodName) prog_1_method_48_code (2 : Nat) (Option.some Jvm.ClassFile.FieldType.char)) ∈ lw_all := lw_g (lw_at lw_m8 132 rfl) rfl
theorem q1857 : (Jvm.Cond.methodLink "QuorumAlmanac" (313 : Nat) ({ cls := "QuorumAlmanac", name := "read", desc := "(I)LQuorumAlmanac$Read;" } : Jvm.MethodName)) ∈ lw_all := lw_g (lw_at lw_m8 133 rfl) rfl
theorem q1858 : (Jvm.Cond.privateMethod ({ cls := "QuorumAlmanac", name := "read", desc := "(I)LQuorumAlmanac$Read;" } : Jvm.MethodName)) ∈ lw_tbl := lw_at lw_m8 134 rfl
theorem q1859 : (Jvm.Cond.instanceMethod ({ cls := "QuorumAlmanac", name := "read", desc := "(I)LQuorumAlmanac$Read;" } : Jvm.MethodName)) ∈ lw_all := lw_g (lw_at lw_m8 135 rfl) rfl
theorem q1860 : (Jvm.Cond.code ({ cls := "QuorumAlmanac", name := "read", desc := "(I)LQuorumAlmanac$Read;" } : Jvm.MethodName) prog_1_method_47_code (2 : Nat) (Option.some (Jvm.ClassFile.FieldType.object "QuorumAlmanac$Read"))) ∈ lw_all := lw_g (lw_at lw_m8 136 rfl) rfl
theorem q1865 : (Jvm.Cond.instanceMethod ({ cls := "QuorumAlmanac", name := "readValue", desc := "(I)I" } : Jvm.MethodName)) ∈ lw_all := lw_g (lw_at lw_m8 141 rfl) rfl
theorem q1866 : (Jvm.Cond.selects "QuorumAlmanac" ({ cls := "QuorumAlmanac", name := "readValue", desc := "(I)I" } : Jvm.MethodName) ({ cls := "QuorumAlmanac", name := "readValue", desc := "(I)I" } : Jvm.MethodName)) ∈ lw_all := lw_g (lw_at lw_m8 142 rfl) rfl
theorem q1867 : (Jvm.Cond.code ({ cls := "QuorumAlmanac", name := "readValue", desc := "(I)I" } : Jvm.MethodName) prog_1_method_49_code (3 : Nat) (Option.some Jvm.ClassFile.FieldType.int)) ∈ lw_all := lw_g (lw_at lw_m8 143 rfl) rfl
theorem q1872 : (Jvm.Cond.instanceMethod ({ cls := "QuorumAlmanac", name := "readStale", desc := "(II)I" } : Jvm.MethodName)) ∈ lw_all := lw_g (lw_at lw_m8 148 rfl) rfl
theorem q1873 : (Jvm.Cond.selects "QuorumAlmanac" ({ cls := "QuorumAlmanac", name := "readStale", desc := "(II)I" } : Jvm.MethodName) ({ cls := "QuorumAlmanac", name := "readStale", desc := "(II)I" } : Jvm.MethodName)) ∈ lw_all := lw_g (lw_at lw_m8 149 rfl) rfl
theorem q1874 : (Jvm.Cond.code ({ cls := "QuorumAlmanac", name := "readStale", desc := "(II)I" } : Jvm.MethodName) prog_1_method_51_code (3 : Nat) (Option.some Jvm.ClassFile.FieldType.int)) ∈ lw_all := lw_g (lw_at lw_m8 150 rfl) rfl
theorem q1875 : (Jvm.Cond.methodLink "QuorumAlmanac" (320 : Nat) ({ cls := "QuorumAlmanac", name := "readable", desc := "(II)LQuorumAlmanac$Node;" } : Jvm.MethodName)) ∈ lw_all := lw_g (lw_at lw_m8 151 rfl) rfl
theorem q1876 : (Jvm.Cond.privateMethod ({ cls := "QuorumAlmanac", name := "readable", desc := "(II)LQuorumAlmanac$Node;" } : Jvm.MethodName)) ∈ lw_tbl := lw_at lw_m8 152 rfl
theorem q1877 : (Jvm.Cond.instanceMethod ({ cls := "QuorumAlmanac", name := "readable", desc := "(II)LQuorumAlmanac$Node;" } : Jvm.MethodName)) ∈ lw_all := lw_g (lw_at lw_m8 153 rfl) rfl
theorem q1878 : (Jvm.Cond.code ({ cls := "QuorumAlmanac", name := "readable", desc := "(II)LQuorumAlmanac$Node;" } : Jvm.MethodName) prog_1_method_50_code (4 : Nat) (Option.some (Jvm.ClassFile.FieldType.object "QuorumAlmanac$Node"))) ∈ lw_all := lw_g (lw_at lw_m8 154 rfl) rfl
theorem q1883 : (Jvm.Cond.instanceMethod ({ cls := "QuorumAlmanac", name := "rangeOf", desc := "(II)I" } : Jvm.MethodName)) ∈ lw_all := lw_g (lw_at lw_m8 159 rfl) rfl
theorem q1884 : (Jvm.Cond.selects "QuorumAlmanac" ({ cls := "QuorumAlmanac", name := "rangeOf", desc := "(II)I" } : Jvm.MethodName) ({ cls := "QuorumAlmanac", name := "rangeOf", desc := "(II)I" } : Jvm.MethodName)) ∈ lw_all := lw_g (lw_at lw_m8 160 rfl) rfl
theorem q1885 : (Jvm.Cond.code ({ cls := "QuorumAlmanac", name := "rangeOf", desc := "(II)I" } : Jvm.MethodName) prog_1_method_52_code (3 : Nat) (Option.some Jvm.ClassFile.FieldType.int)) ∈ lw_all := lw_g (lw_at lw_m8 161 rfl) rfl
theorem q1886 : (Jvm.Cond.methodLink "QuorumAlmanac" (324 : Nat) ({ cls := "QuorumAlmanac$Store", name := "rangeOf", desc := "(I)I" } : Jvm.MethodName)) ∈ lw_all := lw_g (lw_at lw_m8 162 rfl) rfl
theorem q1891 : (Jvm.Cond.instanceMethod ({ cls := "QuorumAlmanac", name := "load", desc := "(II)I" } : Jvm.MethodName)) ∈ lw_all := lw_g (lw_at lw_m8 167 rfl) rfl
theorem q1892 : (Jvm.Cond.selects "QuorumAlmanac" ({ cls := "QuorumAlmanac", name := "load", desc := "(II)I" } : Jvm.MethodName) ({ cls := "QuorumAlmanac", name := "load", desc := "(II)I" } : Jvm.MethodName)) ∈ lw_all := lw_g (lw_at lw_m8 168 rfl) rfl
theorem q1893 : (Jvm.Cond.code ({ cls := "QuorumAlmanac", name := "load", desc := "(II)I" } : Jvm.MethodName) prog_1_method_53_code (4 : Nat) (Option.some Jvm.ClassFile.FieldType.int)) ∈ lw_all := lw_g (lw_at lw_m8 169 rfl) rfl
theorem q1898 : (Jvm.Cond.instanceMethod ({ cls := "QuorumAlmanac", name := "valueByHistory", desc := "(I)I" } : Jvm.MethodName)) ∈ lw_all := lw_g (lw_at lw_m8 174 rfl) rfl
theorem q1899 : (Jvm.Cond.selects "QuorumAlmanac" ({ cls := "QuorumAlmanac", name := "valueByHistory", desc := "(I)I" } : Jvm.MethodName) ({ cls := "QuorumAlmanac", name := "valueByHistory", desc := "(I)I" } : Jvm.MethodName)) ∈ lw_all := lw_g (lw_at lw_m8 175 rfl) rfl
theorem q1900 : (Jvm.Cond.code ({ cls := "QuorumAlmanac", name := "valueByHistory", desc := "(I)I" } : Jvm.MethodName) prog_1_method_55_code (5 : Nat) (Option.some Jvm.ClassFile.FieldType.int)) ∈ lw_all := lw_g (lw_at lw_m8 176 rfl) rfl
theorem q1901 : (Jvm.Cond.classLink "QuorumAlmanac" (297 : Nat) "QuorumAlmanac$Store") ∈ lw_all := lw_g (lw_at lw_m8 177 rfl) rfl
theorem q1902 : (Jvm.Cond.methodLink "QuorumAlmanac" (331 : Nat) ({ cls := "QuorumAlmanac$Store", name := "<init>", desc := "()V" } : Jvm.MethodName)) ∈ lw_all := lw_g (lw_at lw_m8 178 rfl) rfl
theorem q1903 : (Jvm.Cond.methodLink "QuorumAlmanac" (332 : Nat) ({ cls := "QuorumAlmanac$Store", name := "apply", desc := "(LQuorumAlmanac$Entry;)V" } : Jvm.MethodName)) ∈ lw_all := lw_g (lw_at lw_m8 179 rfl) rfl
theorem q1922 : (Jvm.Cond.instanceMethod ({ cls := "QuorumAlmanac", name := "refusedShare", desc := "()F" } : Jvm.MethodName)) ∈ lw_all := lw_g (lw_at lw_m8 198 rfl) rfl
theorem q1923 : (Jvm.Cond.selects "QuorumAlmanac" ({ cls := "QuorumAlmanac", name := "refusedShare", desc := "()F" } : Jvm.MethodName) ({ cls := "QuorumAlmanac", name := "refusedShare", desc := "()F" } : Jvm.MethodName)) ∈ lw_all := lw_g (lw_at lw_m8 199 rfl) rfl
theorem q1924 : (Jvm.Cond.code ({ cls := "QuorumAlmanac", name := "refusedShare", desc := "()F" } : Jvm.MethodName) prog_1_method_57_code (1 : Nat) (Option.some Jvm.ClassFile.FieldType.float)) ∈ lw_all := lw_g (lw_at lw_m8 200 rfl) rfl
theorem q1925 : (Jvm.Cond.classLink "QuorumAlmanac" (336 : Nat) "java/lang/ArithmeticException") ∈ lw_all := lw_g (lw_at lw_m8 201 rfl) rfl
theorem q1926 : (Jvm.Cond.methodLink "QuorumAlmanac" (338 : Nat) ({ cls := "java/lang/ArithmeticException", name := "<init>", desc := "()V" } : Jvm.MethodName)) ∈ lw_all := lw_g (lw_at lw_m8 202 rfl) rfl
theorem q2640 : (Jvm.Cond.castable "QuorumAlmanac" "java/lang/Object") ∈ lw_tbl := lw_at lw_m11 196 rfl
theorem in_X1 : ∀ w ∈ wsX10, w ∈ lw_all := lw_in wsX10 [321, 323, 325, 327, 329, 331, 333, 335, 337, 339, 341] (by decide +kernel) (by decide +kernel)
