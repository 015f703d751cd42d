/-! QuorumAlmanacModel -/
set_option maxRecDepth 100000
def RX6 : String := "QuorumAlmanacModel"
def TX6 : u_T := fun k => match k with
  | 0 => ("QuorumAlmanacModel", "thrown", "I", false)
  | 1 => ("QuorumAlmanacModel", "nodes", "[LQuorumAlmanacModel$Node;", true)
  | 2 => ("QuorumAlmanacModel", "messages", "Ljava/util/ArrayList;", true)
  | 3 => ("QuorumAlmanacModel", "numbered", "I", false)
  | 4 => ("QuorumAlmanacModel", "sent", "I", false)
  | 5 => ("QuorumAlmanacModel", "reads", "Ljava/util/ArrayList;", true)
  | 6 => ("QuorumAlmanacModel", "history", "Ljava/util/ArrayList;", true)
  | 7 => ("QuorumAlmanacModel", "delivered", "J", false)
  | _ => ("QuorumAlmanacModel", "refused", "I", false)
def tyX6 : Nat → FieldType := fun k => match k with
  | 0 => .int
  | 1 => .array (.object "QuorumAlmanacModel$Node")
  | 2 => .object "java/util/ArrayList"
  | 3 => .int
  | 4 => .int
  | 5 => .object "java/util/ArrayList"
  | 6 => .object "java/util/ArrayList"
  | 7 => .long
  | _ => .int
abbrev wsX60 : List Cond := u_ws RX6 TX6 9
theorem nmX6 : ∀ a, a < 9 → ∀ b, b < 9 → a ≠ b → (TX6 a).2.1 ≠ (TX6 b).2.1 := by decide +kernel
theorem tyX6_ok : ∀ k, k < 9 → parseFieldDescriptor (TX6 k).2.2.1 = some (tyX6 k) := by decide +kernel
abbrev cX6_init : ByteArray := prog_19_method_3_code
def yX6_init : MethodName := ⟨RX6, "<init>", "(I)V"⟩
def dkwX6_init_4 : List UInt8 := [132, 3, 1, 167, 255, 232, 177]
abbrev dktX6_init_4 : List UInt8 := dkwX6_init_4 ++ []
def dkwX6_init_3 : List UInt8 := [61, 3, 62, 29, 8, 162, 0, 25, 42, 180, 0, 15, 29, 187, 0, 13, 89, 42, 29, 28, 183, 0, 36, 83]
abbrev dktX6_init_3 : List UInt8 := dkwX6_init_3 ++ dktX6_init_4
def dkwX6_init_2 : List UInt8 := [181, 0, 32, 27, 4, 162, 0, 7, 4, 167, 0, 15, 27, 16, 31, 164, 0, 8, 16, 31, 167, 0, 4, 27]
abbrev dktX6_init_2 : List UInt8 := dkwX6_init_2 ++ dktX6_init_3
def dkwX6_init_1 : List UInt8 := [187, 0, 19, 89, 183, 0, 21, 181, 0, 26, 42, 187, 0, 19, 89, 183, 0, 21, 181, 0, 29, 42, 3]
abbrev dktX6_init_1 : List UInt8 := dkwX6_init_1 ++ dktX6_init_2
def dkwX6_init_0 : List UInt8 := [42, 183, 0, 7, 42, 8, 189, 0, 13, 181, 0, 15, 42, 187, 0, 19, 89, 183, 0, 21, 181, 0, 22, 42]
abbrev dktX6_init_0 : List UInt8 := dkwX6_init_0 ++ dktX6_init_1
theorem dksX6_init_0 : cX6_init.data.toList.drop 0 = dktX6_init_0 := by decide +kernel
theorem dksX6_init_1 : cX6_init.data.toList.drop 24 = dktX6_init_1 := dk_seg dksX6_init_0 24 rfl rfl
theorem dksX6_init_2 : cX6_init.data.toList.drop 47 = dktX6_init_2 := dk_seg dksX6_init_1 23 rfl rfl
theorem dksX6_init_3 : cX6_init.data.toList.drop 71 = dktX6_init_3 := dk_seg dksX6_init_2 24 rfl rfl
theorem dksX6_init_4 : cX6_init.data.toList.drop 95 = dktX6_init_4 := dk_seg dksX6_init_3 24 rfl rfl
theorem dX6_init_0 : decode cX6_init 0 = .ok (.aload_n 0, 1) := dk_42 (dk_at dksX6_init_0 0 rfl rfl)
theorem dX6_init_1 : decode cX6_init 1 = .ok (.invokespecial 7, 3) := dk_183 0 7 (dk_at dksX6_init_0 1 rfl rfl)
theorem dX6_init_4 : decode cX6_init 4 = .ok (.aload_n 0, 1) := dk_42 (dk_at dksX6_init_0 4 rfl rfl)
theorem dX6_init_5 : decode cX6_init 5 = .ok (.iconst 5, 1) := dk_8 (dk_at dksX6_init_0 5 rfl rfl)
theorem dX6_init_6 : decode cX6_init 6 = .ok (.anewarray 13, 3) := dk_189 0 13 (dk_at dksX6_init_0 6 rfl rfl)
theorem dX6_init_9 : decode cX6_init 9 = .ok (.putfield 15, 3) := dk_181 0 15 (dk_at dksX6_init_0 9 rfl rfl)
theorem dX6_init_12 : decode cX6_init 12 = .ok (.aload_n 0, 1) := dk_42 (dk_at dksX6_init_0 12 rfl rfl)
theorem dX6_init_13 : decode cX6_init 13 = .ok (.new 19, 3) := dk_187 0 19 (dk_at dksX6_init_0 13 rfl rfl)
theorem dX6_init_16 : decode cX6_init 16 = .ok (.dup, 1) := dk_89 (dk_at dksX6_init_0 16 rfl rfl)
theorem dX6_init_17 : decode cX6_init 17 = .ok (.invokespecial 21, 3) := dk_183 0 21 (dk_at dksX6_init_0 17 rfl rfl)
theorem dX6_init_20 : decode cX6_init 20 = .ok (.putfield 22, 3) := dk_181 0 22 (dk_at dksX6_init_0 20 rfl rfl)
theorem dX6_init_23 : decode cX6_init 23 = .ok (.aload_n 0, 1) := dk_42 (dk_at dksX6_init_0 23 rfl rfl)
theorem dX6_init_24 : decode cX6_init 24 = .ok (.new 19, 3) := dk_187 0 19 (dk_at dksX6_init_1 0 rfl rfl)
theorem dX6_init_27 : decode cX6_init 27 = .ok (.dup, 1) := dk_89 (dk_at dksX6_init_1 3 rfl rfl)
theorem dX6_init_28 : decode cX6_init 28 = .ok (.invokespecial 21, 3) := dk_183 0 21 (dk_at dksX6_init_1 4 rfl rfl)
theorem dX6_init_31 : decode cX6_init 31 = .ok (.putfield 26, 3) := dk_181 0 26 (dk_at dksX6_init_1 7 rfl rfl)
theorem dX6_init_34 : decode cX6_init 34 = .ok (.aload_n 0, 1) := dk_42 (dk_at dksX6_init_1 10 rfl rfl)
theorem dX6_init_35 : decode cX6_init 35 = .ok (.new 19, 3) := dk_187 0 19 (dk_at dksX6_init_1 11 rfl rfl)
theorem dX6_init_38 : decode cX6_init 38 = .ok (.dup, 1) := dk_89 (dk_at dksX6_init_1 14 rfl rfl)
theorem dX6_init_39 : decode cX6_init 39 = .ok (.invokespecial 21, 3) := dk_183 0 21 (dk_at dksX6_init_1 15 rfl rfl)
theorem dX6_init_42 : decode cX6_init 42 = .ok (.putfield 29, 3) := dk_181 0 29 (dk_at dksX6_init_1 18 rfl rfl)
theorem dX6_init_45 : decode cX6_init 45 = .ok (.aload_n 0, 1) := dk_42 (dk_at dksX6_init_1 21 rfl rfl)
theorem dX6_init_46 : decode cX6_init 46 = .ok (.iconst 0, 1) := dk_3 (dk_at dksX6_init_1 22 rfl rfl)
theorem dX6_init_47 : decode cX6_init 47 = .ok (.putfield 32, 3) := dk_181 0 32 (dk_at dksX6_init_2 0 rfl rfl)
theorem dX6_init_50 : decode cX6_init 50 = .ok (.iload_n 1, 1) := dk_27 (dk_at dksX6_init_2 3 rfl rfl)
theorem dX6_init_51 : decode cX6_init 51 = .ok (.iconst 1, 1) := dk_4 (dk_at dksX6_init_2 4 rfl rfl)
theorem dX6_init_52 : decode cX6_init 52 = .ok (.if_icmp .ge 7, 3) := dk_162 0 7 (dk_at dksX6_init_2 5 rfl rfl)
theorem dX6_init_55 : decode cX6_init 55 = .ok (.iconst 1, 1) := dk_4 (dk_at dksX6_init_2 8 rfl rfl)
theorem dX6_init_56 : decode cX6_init 56 = .ok (.goto 15, 3) := dk_167 0 15 (dk_at dksX6_init_2 9 rfl rfl)
theorem dX6_init_59 : decode cX6_init 59 = .ok (.iload_n 1, 1) := dk_27 (dk_at dksX6_init_2 12 rfl rfl)
theorem dX6_init_60 : decode cX6_init 60 = .ok (.bipush 31, 2) := dk_16 31 (dk_at dksX6_init_2 13 rfl rfl)
theorem dX6_init_62 : decode cX6_init 62 = .ok (.if_icmp .le 8, 3) := dk_164 0 8 (dk_at dksX6_init_2 15 rfl rfl)
theorem dX6_init_65 : decode cX6_init 65 = .ok (.bipush 31, 2) := dk_16 31 (dk_at dksX6_init_2 18 rfl rfl)
theorem dX6_init_67 : decode cX6_init 67 = .ok (.goto 4, 3) := dk_167 0 4 (dk_at dksX6_init_2 20 rfl rfl)
theorem dX6_init_70 : decode cX6_init 70 = .ok (.iload_n 1, 1) := dk_27 (dk_at dksX6_init_2 23 rfl rfl)
theorem dX6_init_71 : decode cX6_init 71 = .ok (.istore_n 2, 1) := dk_61 (dk_at dksX6_init_3 0 rfl rfl)
theorem dX6_init_72 : decode cX6_init 72 = .ok (.iconst 0, 1) := dk_3 (dk_at dksX6_init_3 1 rfl rfl)
theorem dX6_init_73 : decode cX6_init 73 = .ok (.istore_n 3, 1) := dk_62 (dk_at dksX6_init_3 2 rfl rfl)
theorem dX6_init_74 : decode cX6_init 74 = .ok (.iload_n 3, 1) := dk_29 (dk_at dksX6_init_3 3 rfl rfl)
theorem dX6_init_75 : decode cX6_init 75 = .ok (.iconst 5, 1) := dk_8 (dk_at dksX6_init_3 4 rfl rfl)
theorem dX6_init_76 : decode cX6_init 76 = .ok (.if_icmp .ge 25, 3) := dk_162 0 25 (dk_at dksX6_init_3 5 rfl rfl)
theorem dX6_init_79 : decode cX6_init 79 = .ok (.aload_n 0, 1) := dk_42 (dk_at dksX6_init_3 8 rfl rfl)
theorem dX6_init_80 : decode cX6_init 80 = .ok (.getfield 15, 3) := dk_180 0 15 (dk_at dksX6_init_3 9 rfl rfl)
theorem dX6_init_83 : decode cX6_init 83 = .ok (.iload_n 3, 1) := dk_29 (dk_at dksX6_init_3 12 rfl rfl)
theorem dX6_init_84 : decode cX6_init 84 = .ok (.new 13, 3) := dk_187 0 13 (dk_at dksX6_init_3 13 rfl rfl)
theorem dX6_init_87 : decode cX6_init 87 = .ok (.dup, 1) := dk_89 (dk_at dksX6_init_3 16 rfl rfl)
theorem dX6_init_88 : decode cX6_init 88 = .ok (.aload_n 0, 1) := dk_42 (dk_at dksX6_init_3 17 rfl rfl)
theorem dX6_init_89 : decode cX6_init 89 = .ok (.iload_n 3, 1) := dk_29 (dk_at dksX6_init_3 18 rfl rfl)
theorem dX6_init_90 : decode cX6_init 90 = .ok (.iload_n 2, 1) := dk_28 (dk_at dksX6_init_3 19 rfl rfl)
theorem dX6_init_91 : decode cX6_init 91 = .ok (.invokespecial 36, 3) := dk_183 0 36 (dk_at dksX6_init_3 20 rfl rfl)
theorem dX6_init_94 : decode cX6_init 94 = .ok (.aastore, 1) := dk_83 (dk_at dksX6_init_3 23 rfl rfl)
theorem dX6_init_95 : decode cX6_init 95 = .ok (.iinc 3 1, 3) := dk_132 3 1 (dk_at dksX6_init_4 0 rfl rfl)
theorem dX6_init_98 : decode cX6_init 98 = .ok (.goto (-24), 3) := dk_167 255 232 (dk_at dksX6_init_4 3 rfl rfl)
theorem dX6_init_101 : decode cX6_init 101 = .ok (.return_, 1) := dk_177 (dk_at dksX6_init_4 6 rfl rfl)
abbrev cX6_thrown : ByteArray := prog_19_method_4_code
def yX6_thrown : MethodName := ⟨RX6, "thrown", "()I"⟩
theorem dX6_thrown_0 : decode cX6_thrown 0 = .ok (.aload_n 0, 1) := by decide +kernel
theorem dX6_thrown_1 : decode cX6_thrown 1 = .ok (.getfield 32, 3) := by decide +kernel
theorem dX6_thrown_4 : decode cX6_thrown 4 = .ok (.ireturn, 1) := by decide +kernel
abbrev cX6_tick : ByteArray := prog_19_method_11_code
def yX6_tick : MethodName := ⟨RX6, "tick", "(I)I"⟩
def dkwX6_tick_5 : List UInt8 := [180, 0, 81, 172]
abbrev dktX6_tick_5 : List UInt8 := dkwX6_tick_5 ++ []
def dkwX6_tick_4 : List UInt8 := [5, 182, 0, 43, 153, 0, 5, 3, 172, 42, 180, 0, 15, 27, 50, 182, 0, 84, 42, 180, 0, 15, 27, 50]
abbrev dktX6_tick_4 : List UInt8 := dkwX6_tick_4 ++ dktX6_tick_5
def dkwX6_tick_3 : List UInt8 := [163, 0, 7, 4, 167, 0, 4, 3, 61, 132, 3, 1, 167, 255, 196, 42, 28, 153, 0, 7, 3, 167, 0, 4]
abbrev dktX6_tick_3 : List UInt8 := dkwX6_tick_3 ++ dktX6_tick_4
def dkwX6_tick_2 : List UInt8 := [42, 180, 0, 15, 27, 50, 180, 0, 81, 4, 96, 42, 180, 0, 15, 29, 50, 180, 0, 81, 100, 5]
abbrev dktX6_tick_2 : List UInt8 := dkwX6_tick_2 ++ dktX6_tick_3
def dkwX6_tick_1 : List UInt8 := [162, 0, 61, 28, 153, 0, 49, 29, 27, 159, 0, 40, 42, 180, 0, 15, 29, 50, 180, 0, 77, 153, 0, 28]
abbrev dktX6_tick_1 : List UInt8 := dkwX6_tick_1 ++ dktX6_tick_2
def dkwX6_tick_0 : List UInt8 := [42, 27, 182, 0, 74, 153, 0, 5, 3, 172, 42, 180, 0, 15, 27, 50, 180, 0, 77, 61, 3, 62, 29, 8]
abbrev dktX6_tick_0 : List UInt8 := dkwX6_tick_0 ++ dktX6_tick_1
theorem dksX6_tick_0 : cX6_tick.data.toList.drop 0 = dktX6_tick_0 := by decide +kernel
theorem dksX6_tick_1 : cX6_tick.data.toList.drop 24 = dktX6_tick_1 := dk_seg dksX6_tick_0 24 rfl rfl
theorem dksX6_tick_2 : cX6_tick.data.toList.drop 48 = dktX6_tick_2 := dk_seg dksX6_tick_1 24 rfl rfl
theorem dksX6_tick_3 : cX6_tick.data.toList.drop 70 = dktX6_tick_3 := dk_seg dksX6_tick_2 22 rfl rfl
theorem dksX6_tick_4 : cX6_tick.data.toList.drop 94 = dktX6_tick_4 := dk_seg dksX6_tick_3 24 rfl rfl
theorem dksX6_tick_5 : cX6_tick.data.toList.drop 118 = dktX6_tick_5 := dk_seg dksX6_tick_4 24 rfl rfl
theorem dX6_tick_0 : decode cX6_tick 0 = .ok (.aload_n 0, 1) := dk_42 (dk_at dksX6_tick_0 0 rfl rfl)
theorem dX6_tick_1 : decode cX6_tick 1 = .ok (.iload_n 1, 1) := dk_27 (dk_at dksX6_tick_0 1 rfl rfl)
theorem dX6_tick_2 : decode cX6_tick 2 = .ok (.invokevirtual 74, 3) := dk_182 0 74 (dk_at dksX6_tick_0 2 rfl rfl)
theorem dX6_tick_5 : decode cX6_tick 5 = .ok (.ifCond .eq 5, 3) := dk_153 0 5 (dk_at dksX6_tick_0 5 rfl rfl)
theorem dX6_tick_8 : decode cX6_tick 8 = .ok (.iconst 0, 1) := dk_3 (dk_at dksX6_tick_0 8 rfl rfl)
theorem dX6_tick_9 : decode cX6_tick 9 = .ok (.ireturn, 1) := dk_172 (dk_at dksX6_tick_0 9 rfl rfl)
theorem dX6_tick_10 : decode cX6_tick 10 = .ok (.aload_n 0, 1) := dk_42 (dk_at dksX6_tick_0 10 rfl rfl)
theorem dX6_tick_11 : decode cX6_tick 11 = .ok (.getfield 15, 3) := dk_180 0 15 (dk_at dksX6_tick_0 11 rfl rfl)
theorem dX6_tick_14 : decode cX6_tick 14 = .ok (.iload_n 1, 1) := dk_27 (dk_at dksX6_tick_0 14 rfl rfl)
theorem dX6_tick_15 : decode cX6_tick 15 = .ok (.aaload, 1) := dk_50 (dk_at dksX6_tick_0 15 rfl rfl)
theorem dX6_tick_16 : decode cX6_tick 16 = .ok (.getfield 77, 3) := dk_180 0 77 (dk_at dksX6_tick_0 16 rfl rfl)
theorem dX6_tick_19 : decode cX6_tick 19 = .ok (.istore_n 2, 1) := dk_61 (dk_at dksX6_tick_0 19 rfl rfl)
theorem dX6_tick_20 : decode cX6_tick 20 = .ok (.iconst 0, 1) := dk_3 (dk_at dksX6_tick_0 20 rfl rfl)
theorem dX6_tick_21 : decode cX6_tick 21 = .ok (.istore_n 3, 1) := dk_62 (dk_at dksX6_tick_0 21 rfl rfl)
theorem dX6_tick_22 : decode cX6_tick 22 = .ok (.iload_n 3, 1) := dk_29 (dk_at dksX6_tick_0 22 rfl rfl)
theorem dX6_tick_23 : decode cX6_tick 23 = .ok (.iconst 5, 1) := dk_8 (dk_at dksX6_tick_0 23 rfl rfl)
theorem dX6_tick_24 : decode cX6_tick 24 = .ok (.if_icmp .ge 61, 3) := dk_162 0 61 (dk_at dksX6_tick_1 0 rfl rfl)
theorem dX6_tick_27 : decode cX6_tick 27 = .ok (.iload_n 2, 1) := dk_28 (dk_at dksX6_tick_1 3 rfl rfl)
theorem dX6_tick_28 : decode cX6_tick 28 = .ok (.ifCond .eq 49, 3) := dk_153 0 49 (dk_at dksX6_tick_1 4 rfl rfl)
theorem dX6_tick_31 : decode cX6_tick 31 = .ok (.iload_n 3, 1) := dk_29 (dk_at dksX6_tick_1 7 rfl rfl)
theorem dX6_tick_32 : decode cX6_tick 32 = .ok (.iload_n 1, 1) := dk_27 (dk_at dksX6_tick_1 8 rfl rfl)
theorem dX6_tick_33 : decode cX6_tick 33 = .ok (.if_icmp .eq 40, 3) := dk_159 0 40 (dk_at dksX6_tick_1 9 rfl rfl)
theorem dX6_tick_36 : decode cX6_tick 36 = .ok (.aload_n 0, 1) := dk_42 (dk_at dksX6_tick_1 12 rfl rfl)
theorem dX6_tick_37 : decode cX6_tick 37 = .ok (.getfield 15, 3) := dk_180 0 15 (dk_at dksX6_tick_1 13 rfl rfl)
theorem dX6_tick_40 : decode cX6_tick 40 = .ok (.iload_n 3, 1) := dk_29 (dk_at dksX6_tick_1 16 rfl rfl)
theorem dX6_tick_41 : decode cX6_tick 41 = .ok (.aaload, 1) := dk_50 (dk_at dksX6_tick_1 17 rfl rfl)
theorem dX6_tick_42 : decode cX6_tick 42 = .ok (.getfield 77, 3) := dk_180 0 77 (dk_at dksX6_tick_1 18 rfl rfl)
theorem dX6_tick_45 : decode cX6_tick 45 = .ok (.ifCond .eq 28, 3) := dk_153 0 28 (dk_at dksX6_tick_1 21 rfl rfl)
theorem dX6_tick_48 : decode cX6_tick 48 = .ok (.aload_n 0, 1) := dk_42 (dk_at dksX6_tick_2 0 rfl rfl)
theorem dX6_tick_49 : decode cX6_tick 49 = .ok (.getfield 15, 3) := dk_180 0 15 (dk_at dksX6_tick_2 1 rfl rfl)
theorem dX6_tick_52 : decode cX6_tick 52 = .ok (.iload_n 1, 1) := dk_27 (dk_at dksX6_tick_2 4 rfl rfl)
theorem dX6_tick_53 : decode cX6_tick 53 = .ok (.aaload, 1) := dk_50 (dk_at dksX6_tick_2 5 rfl rfl)
theorem dX6_tick_54 : decode cX6_tick 54 = .ok (.getfield 81, 3) := dk_180 0 81 (dk_at dksX6_tick_2 6 rfl rfl)
theorem dX6_tick_57 : decode cX6_tick 57 = .ok (.iconst 1, 1) := dk_4 (dk_at dksX6_tick_2 9 rfl rfl)
theorem dX6_tick_58 : decode cX6_tick 58 = .ok (.iadd, 1) := dk_96 (dk_at dksX6_tick_2 10 rfl rfl)
theorem dX6_tick_59 : decode cX6_tick 59 = .ok (.aload_n 0, 1) := dk_42 (dk_at dksX6_tick_2 11 rfl rfl)
theorem dX6_tick_60 : decode cX6_tick 60 = .ok (.getfield 15, 3) := dk_180 0 15 (dk_at dksX6_tick_2 12 rfl rfl)
theorem dX6_tick_63 : decode cX6_tick 63 = .ok (.iload_n 3, 1) := dk_29 (dk_at dksX6_tick_2 15 rfl rfl)
theorem dX6_tick_64 : decode cX6_tick 64 = .ok (.aaload, 1) := dk_50 (dk_at dksX6_tick_2 16 rfl rfl)
theorem dX6_tick_65 : decode cX6_tick 65 = .ok (.getfield 81, 3) := dk_180 0 81 (dk_at dksX6_tick_2 17 rfl rfl)
theorem dX6_tick_68 : decode cX6_tick 68 = .ok (.isub, 1) := dk_100 (dk_at dksX6_tick_2 20 rfl rfl)
theorem dX6_tick_69 : decode cX6_tick 69 = .ok (.iconst 2, 1) := dk_5 (dk_at dksX6_tick_2 21 rfl rfl)
theorem dX6_tick_70 : decode cX6_tick 70 = .ok (.if_icmp .gt 7, 3) := dk_163 0 7 (dk_at dksX6_tick_3 0 rfl rfl)
theorem dX6_tick_73 : decode cX6_tick 73 = .ok (.iconst 1, 1) := dk_4 (dk_at dksX6_tick_3 3 rfl rfl)
theorem dX6_tick_74 : decode cX6_tick 74 = .ok (.goto 4, 3) := dk_167 0 4 (dk_at dksX6_tick_3 4 rfl rfl)
theorem dX6_tick_77 : decode cX6_tick 77 = .ok (.iconst 0, 1) := dk_3 (dk_at dksX6_tick_3 7 rfl rfl)
theorem dX6_tick_78 : decode cX6_tick 78 = .ok (.istore_n 2, 1) := dk_61 (dk_at dksX6_tick_3 8 rfl rfl)
theorem dX6_tick_79 : decode cX6_tick 79 = .ok (.iinc 3 1, 3) := dk_132 3 1 (dk_at dksX6_tick_3 9 rfl rfl)
theorem dX6_tick_82 : decode cX6_tick 82 = .ok (.goto (-60), 3) := dk_167 255 196 (dk_at dksX6_tick_3 12 rfl rfl)
theorem dX6_tick_85 : decode cX6_tick 85 = .ok (.aload_n 0, 1) := dk_42 (dk_at dksX6_tick_3 15 rfl rfl)
theorem dX6_tick_86 : decode cX6_tick 86 = .ok (.iload_n 2, 1) := dk_28 (dk_at dksX6_tick_3 16 rfl rfl)
theorem dX6_tick_87 : decode cX6_tick 87 = .ok (.ifCond .eq 7, 3) := dk_153 0 7 (dk_at dksX6_tick_3 17 rfl rfl)
theorem dX6_tick_90 : decode cX6_tick 90 = .ok (.iconst 0, 1) := dk_3 (dk_at dksX6_tick_3 20 rfl rfl)
theorem dX6_tick_91 : decode cX6_tick 91 = .ok (.goto 4, 3) := dk_167 0 4 (dk_at dksX6_tick_3 21 rfl rfl)
theorem dX6_tick_94 : decode cX6_tick 94 = .ok (.iconst 2, 1) := dk_5 (dk_at dksX6_tick_4 0 rfl rfl)
theorem dX6_tick_95 : decode cX6_tick 95 = .ok (.invokevirtual 43, 3) := dk_182 0 43 (dk_at dksX6_tick_4 1 rfl rfl)
theorem dX6_tick_98 : decode cX6_tick 98 = .ok (.ifCond .eq 5, 3) := dk_153 0 5 (dk_at dksX6_tick_4 4 rfl rfl)
theorem dX6_tick_101 : decode cX6_tick 101 = .ok (.iconst 0, 1) := dk_3 (dk_at dksX6_tick_4 7 rfl rfl)
theorem dX6_tick_102 : decode cX6_tick 102 = .ok (.ireturn, 1) := dk_172 (dk_at dksX6_tick_4 8 rfl rfl)
theorem dX6_tick_103 : decode cX6_tick 103 = .ok (.aload_n 0, 1) := dk_42 (dk_at dksX6_tick_4 9 rfl rfl)
theorem dX6_tick_104 : decode cX6_tick 104 = .ok (.getfield 15, 3) := dk_180 0 15 (dk_at dksX6_tick_4 10 rfl rfl)
theorem dX6_tick_107 : decode cX6_tick 107 = .ok (.iload_n 1, 1) := dk_27 (dk_at dksX6_tick_4 13 rfl rfl)
theorem dX6_tick_108 : decode cX6_tick 108 = .ok (.aaload, 1) := dk_50 (dk_at dksX6_tick_4 14 rfl rfl)
theorem dX6_tick_109 : decode cX6_tick 109 = .ok (.invokevirtual 84, 3) := dk_182 0 84 (dk_at dksX6_tick_4 15 rfl rfl)
theorem dX6_tick_112 : decode cX6_tick 112 = .ok (.aload_n 0, 1) := dk_42 (dk_at dksX6_tick_4 18 rfl rfl)
theorem dX6_tick_113 : decode cX6_tick 113 = .ok (.getfield 15, 3) := dk_180 0 15 (dk_at dksX6_tick_4 19 rfl rfl)
theorem dX6_tick_116 : decode cX6_tick 116 = .ok (.iload_n 1, 1) := dk_27 (dk_at dksX6_tick_4 22 rfl rfl)
theorem dX6_tick_117 : decode cX6_tick 117 = .ok (.aaload, 1) := dk_50 (dk_at dksX6_tick_4 23 rfl rfl)
theorem dX6_tick_118 : decode cX6_tick 118 = .ok (.getfield 81, 3) := dk_180 0 81 (dk_at dksX6_tick_5 0 rfl rfl)
theorem dX6_tick_121 : decode cX6_tick 121 = .ok (.ireturn, 1) := dk_172 (dk_at dksX6_tick_5 3 rfl rfl)
abbrev cX6_failsNode : ByteArray := prog_19_method_7_code
def yX6_failsNode : MethodName := ⟨RX6, "failsNode", "(I)Z"⟩
def dkwX6_failsNode_0 : List UInt8 := [42, 27, 3, 7, 184, 0, 39, 153, 0, 7, 3, 167, 0, 4, 4, 182, 0, 43, 172]
abbrev dktX6_failsNode_0 : List UInt8 := dkwX6_failsNode_0 ++ []
theorem dksX6_failsNode_0 : cX6_failsNode.data.toList.drop 0 = dktX6_failsNode_0 := by decide +kernel
theorem dX6_failsNode_0 : decode cX6_failsNode 0 = .ok (.aload_n 0, 1) := dk_42 (dk_at dksX6_failsNode_0 0 rfl rfl)
theorem dX6_failsNode_1 : decode cX6_failsNode 1 = .ok (.iload_n 1, 1) := dk_27 (dk_at dksX6_failsNode_0 1 rfl rfl)
theorem dX6_failsNode_2 : decode cX6_failsNode 2 = .ok (.iconst 0, 1) := dk_3 (dk_at dksX6_failsNode_0 2 rfl rfl)
theorem dX6_failsNode_3 : decode cX6_failsNode 3 = .ok (.iconst 4, 1) := dk_7 (dk_at dksX6_failsNode_0 3 rfl rfl)
theorem dX6_failsNode_4 : decode cX6_failsNode 4 = .ok (.invokestatic 39, 3) := dk_184 0 39 (dk_at dksX6_failsNode_0 4 rfl rfl)
theorem dX6_failsNode_7 : decode cX6_failsNode 7 = .ok (.ifCond .eq 7, 3) := dk_153 0 7 (dk_at dksX6_failsNode_0 7 rfl rfl)
theorem dX6_failsNode_10 : decode cX6_failsNode 10 = .ok (.iconst 0, 1) := dk_3 (dk_at dksX6_failsNode_0 10 rfl rfl)
theorem dX6_failsNode_11 : decode cX6_failsNode 11 = .ok (.goto 4, 3) := dk_167 0 4 (dk_at dksX6_failsNode_0 11 rfl rfl)
theorem dX6_failsNode_14 : decode cX6_failsNode 14 = .ok (.iconst 1, 1) := dk_4 (dk_at dksX6_failsNode_0 14 rfl rfl)
theorem dX6_failsNode_15 : decode cX6_failsNode 15 = .ok (.invokevirtual 43, 3) := dk_182 0 43 (dk_at dksX6_failsNode_0 15 rfl rfl)
theorem dX6_failsNode_18 : decode cX6_failsNode 18 = .ok (.ireturn, 1) := dk_172 (dk_at dksX6_failsNode_0 18 rfl rfl)
abbrev cX6_in : ByteArray := prog_19_method_6_code
def yX6_in : MethodName := ⟨RX6, "in", "(III)Z"⟩
def dkwX6_in_0 : List UInt8 := [26, 27, 161, 0, 12, 26, 28, 163, 0, 7, 4, 167, 0, 4, 3, 172]
abbrev dktX6_in_0 : List UInt8 := dkwX6_in_0 ++ []
theorem dksX6_in_0 : cX6_in.data.toList.drop 0 = dktX6_in_0 := by decide +kernel
theorem dX6_in_0 : decode cX6_in 0 = .ok (.iload_n 0, 1) := dk_26 (dk_at dksX6_in_0 0 rfl rfl)
theorem dX6_in_1 : decode cX6_in 1 = .ok (.iload_n 1, 1) := dk_27 (dk_at dksX6_in_0 1 rfl rfl)
theorem dX6_in_2 : decode cX6_in 2 = .ok (.if_icmp .lt 12, 3) := dk_161 0 12 (dk_at dksX6_in_0 2 rfl rfl)
theorem dX6_in_5 : decode cX6_in 5 = .ok (.iload_n 0, 1) := dk_26 (dk_at dksX6_in_0 5 rfl rfl)
theorem dX6_in_6 : decode cX6_in 6 = .ok (.iload_n 2, 1) := dk_28 (dk_at dksX6_in_0 6 rfl rfl)
theorem dX6_in_7 : decode cX6_in 7 = .ok (.if_icmp .gt 7, 3) := dk_163 0 7 (dk_at dksX6_in_0 7 rfl rfl)
theorem dX6_in_10 : decode cX6_in 10 = .ok (.iconst 1, 1) := dk_4 (dk_at dksX6_in_0 10 rfl rfl)
theorem dX6_in_11 : decode cX6_in 11 = .ok (.goto 4, 3) := dk_167 0 4 (dk_at dksX6_in_0 11 rfl rfl)
theorem dX6_in_14 : decode cX6_in 14 = .ok (.iconst 0, 1) := dk_3 (dk_at dksX6_in_0 14 rfl rfl)
theorem dX6_in_15 : decode cX6_in 15 = .ok (.ireturn, 1) := dk_172 (dk_at dksX6_in_0 15 rfl rfl)
abbrev cX6_fails : ByteArray := prog_19_method_5_code
def yX6_fails : MethodName := ⟨RX6, "fails", "(I)Z"⟩
def dkwX6_fails_0 : List UInt8 := [42, 27, 181, 0, 32, 27, 158, 0, 7, 4, 167, 0, 4, 3, 172]
abbrev dktX6_fails_0 : List UInt8 := dkwX6_fails_0 ++ []
theorem dksX6_fails_0 : cX6_fails.data.toList.drop 0 = dktX6_fails_0 := by decide +kernel
theorem dX6_fails_0 : decode cX6_fails 0 = .ok (.aload_n 0, 1) := dk_42 (dk_at dksX6_fails_0 0 rfl rfl)
theorem dX6_fails_1 : decode cX6_fails 1 = .ok (.iload_n 1, 1) := dk_27 (dk_at dksX6_fails_0 1 rfl rfl)
theorem dX6_fails_2 : decode cX6_fails 2 = .ok (.putfield 32, 3) := dk_181 0 32 (dk_at dksX6_fails_0 2 rfl rfl)
theorem dX6_fails_5 : decode cX6_fails 5 = .ok (.iload_n 1, 1) := dk_27 (dk_at dksX6_fails_0 5 rfl rfl)
theorem dX6_fails_6 : decode cX6_fails 6 = .ok (.ifCond .le 7, 3) := dk_158 0 7 (dk_at dksX6_fails_0 6 rfl rfl)
theorem dX6_fails_9 : decode cX6_fails 9 = .ok (.iconst 1, 1) := dk_4 (dk_at dksX6_fails_0 9 rfl rfl)
theorem dX6_fails_10 : decode cX6_fails 10 = .ok (.goto 4, 3) := dk_167 0 4 (dk_at dksX6_fails_0 10 rfl rfl)
theorem dX6_fails_13 : decode cX6_fails 13 = .ok (.iconst 0, 1) := dk_3 (dk_at dksX6_fails_0 13 rfl rfl)
theorem dX6_fails_14 : decode cX6_fails 14 = .ok (.ireturn, 1) := dk_172 (dk_at dksX6_fails_0 14 rfl rfl)
abbrev cX6_send : ByteArray := prog_19_method_9_code
def yX6_send : MethodName := ⟨RX6, "send", "(CII)LQuorumAlmanacModel$Message;"⟩
def dkwX6_send_1 : List UInt8 := [180, 0, 67, 4, 96, 181, 0, 67, 25, 4, 176]
abbrev dktX6_send_1 : List UInt8 := dkwX6_send_1 ++ []
def dkwX6_send_0 : List UInt8 := [187, 0, 55, 89, 42, 180, 0, 57, 27, 28, 29, 183, 0, 60, 58, 4, 42, 25, 4, 182, 0, 63, 42, 89]
abbrev dktX6_send_0 : List UInt8 := dkwX6_send_0 ++ dktX6_send_1
theorem dksX6_send_0 : cX6_send.data.toList.drop 0 = dktX6_send_0 := by decide +kernel
theorem dksX6_send_1 : cX6_send.data.toList.drop 24 = dktX6_send_1 := dk_seg dksX6_send_0 24 rfl rfl
theorem dX6_send_0 : decode cX6_send 0 = .ok (.new 55, 3) := dk_187 0 55 (dk_at dksX6_send_0 0 rfl rfl)
theorem dX6_send_3 : decode cX6_send 3 = .ok (.dup, 1) := dk_89 (dk_at dksX6_send_0 3 rfl rfl)
theorem dX6_send_4 : decode cX6_send 4 = .ok (.aload_n 0, 1) := dk_42 (dk_at dksX6_send_0 4 rfl rfl)
theorem dX6_send_5 : decode cX6_send 5 = .ok (.getfield 57, 3) := dk_180 0 57 (dk_at dksX6_send_0 5 rfl rfl)
theorem dX6_send_8 : decode cX6_send 8 = .ok (.iload_n 1, 1) := dk_27 (dk_at dksX6_send_0 8 rfl rfl)
theorem dX6_send_9 : decode cX6_send 9 = .ok (.iload_n 2, 1) := dk_28 (dk_at dksX6_send_0 9 rfl rfl)
theorem dX6_send_10 : decode cX6_send 10 = .ok (.iload_n 3, 1) := dk_29 (dk_at dksX6_send_0 10 rfl rfl)
theorem dX6_send_11 : decode cX6_send 11 = .ok (.invokespecial 60, 3) := dk_183 0 60 (dk_at dksX6_send_0 11 rfl rfl)
theorem dX6_send_14 : decode cX6_send 14 = .ok (.astore 4, 2) := dk_58 4 (dk_at dksX6_send_0 14 rfl rfl)
theorem dX6_send_16 : decode cX6_send 16 = .ok (.aload_n 0, 1) := dk_42 (dk_at dksX6_send_0 16 rfl rfl)
theorem dX6_send_17 : decode cX6_send 17 = .ok (.aload 4, 2) := dk_25 4 (dk_at dksX6_send_0 17 rfl rfl)
theorem dX6_send_19 : decode cX6_send 19 = .ok (.invokevirtual 63, 3) := dk_182 0 63 (dk_at dksX6_send_0 19 rfl rfl)
theorem dX6_send_22 : decode cX6_send 22 = .ok (.aload_n 0, 1) := dk_42 (dk_at dksX6_send_0 22 rfl rfl)
theorem dX6_send_23 : decode cX6_send 23 = .ok (.dup, 1) := dk_89 (dk_at dksX6_send_0 23 rfl rfl)
theorem dX6_send_24 : decode cX6_send 24 = .ok (.getfield 67, 3) := dk_180 0 67 (dk_at dksX6_send_1 0 rfl rfl)
theorem dX6_send_27 : decode cX6_send 27 = .ok (.iconst 1, 1) := dk_4 (dk_at dksX6_send_1 3 rfl rfl)
theorem dX6_send_28 : decode cX6_send 28 = .ok (.iadd, 1) := dk_96 (dk_at dksX6_send_1 4 rfl rfl)
theorem dX6_send_29 : decode cX6_send 29 = .ok (.putfield 67, 3) := dk_181 0 67 (dk_at dksX6_send_1 5 rfl rfl)
theorem dX6_send_32 : decode cX6_send 32 = .ok (.aload 4, 2) := dk_25 4 (dk_at dksX6_send_1 8 rfl rfl)
theorem dX6_send_34 : decode cX6_send 34 = .ok (.areturn, 1) := dk_176 (dk_at dksX6_send_1 10 rfl rfl)
abbrev cX6_comes : ByteArray := prog_19_method_10_code
def yX6_comes : MethodName := ⟨RX6, "comes", "(LQuorumAlmanacModel$Message;)V"⟩
def dkwX6_comes_1 : List UInt8 := [182, 0, 47, 16, 60, 164, 0, 15, 42, 180, 0, 22, 3, 182, 0, 70, 192, 0, 55, 78, 177]
abbrev dktX6_comes_1 : List UInt8 := dkwX6_comes_1 ++ []
def dkwX6_comes_0 : List UInt8 := [42, 89, 180, 0, 57, 4, 96, 181, 0, 57, 42, 180, 0, 22, 43, 182, 0, 51, 61, 42, 180, 0, 22]
abbrev dktX6_comes_0 : List UInt8 := dkwX6_comes_0 ++ dktX6_comes_1
theorem dksX6_comes_0 : cX6_comes.data.toList.drop 0 = dktX6_comes_0 := by decide +kernel
theorem dksX6_comes_1 : cX6_comes.data.toList.drop 23 = dktX6_comes_1 := dk_seg dksX6_comes_0 23 rfl rfl
theorem dX6_comes_0 : decode cX6_comes 0 = .ok (.aload_n 0, 1) := dk_42 (dk_at dksX6_comes_0 0 rfl rfl)
theorem dX6_comes_1 : decode cX6_comes 1 = .ok (.dup, 1) := dk_89 (dk_at dksX6_comes_0 1 rfl rfl)
theorem dX6_comes_2 : decode cX6_comes 2 = .ok (.getfield 57, 3) := dk_180 0 57 (dk_at dksX6_comes_0 2 rfl rfl)
theorem dX6_comes_5 : decode cX6_comes 5 = .ok (.iconst 1, 1) := dk_4 (dk_at dksX6_comes_0 5 rfl rfl)
theorem dX6_comes_6 : decode cX6_comes 6 = .ok (.iadd, 1) := dk_96 (dk_at dksX6_comes_0 6 rfl rfl)
theorem dX6_comes_7 : decode cX6_comes 7 = .ok (.putfield 57, 3) := dk_181 0 57 (dk_at dksX6_comes_0 7 rfl rfl)
theorem dX6_comes_10 : decode cX6_comes 10 = .ok (.aload_n 0, 1) := dk_42 (dk_at dksX6_comes_0 10 rfl rfl)
theorem dX6_comes_11 : decode cX6_comes 11 = .ok (.getfield 22, 3) := dk_180 0 22 (dk_at dksX6_comes_0 11 rfl rfl)
theorem dX6_comes_14 : decode cX6_comes 14 = .ok (.aload_n 1, 1) := dk_43 (dk_at dksX6_comes_0 14 rfl rfl)
theorem dX6_comes_15 : decode cX6_comes 15 = .ok (.invokevirtual 51, 3) := dk_182 0 51 (dk_at dksX6_comes_0 15 rfl rfl)
theorem dX6_comes_18 : decode cX6_comes 18 = .ok (.istore_n 2, 1) := dk_61 (dk_at dksX6_comes_0 18 rfl rfl)
theorem dX6_comes_19 : decode cX6_comes 19 = .ok (.aload_n 0, 1) := dk_42 (dk_at dksX6_comes_0 19 rfl rfl)
theorem dX6_comes_20 : decode cX6_comes 20 = .ok (.getfield 22, 3) := dk_180 0 22 (dk_at dksX6_comes_0 20 rfl rfl)
theorem dX6_comes_23 : decode cX6_comes 23 = .ok (.invokevirtual 47, 3) := dk_182 0 47 (dk_at dksX6_comes_1 0 rfl rfl)
theorem dX6_comes_26 : decode cX6_comes 26 = .ok (.bipush 60, 2) := dk_16 60 (dk_at dksX6_comes_1 3 rfl rfl)
theorem dX6_comes_28 : decode cX6_comes 28 = .ok (.if_icmp .le 15, 3) := dk_164 0 15 (dk_at dksX6_comes_1 5 rfl rfl)
theorem dX6_comes_31 : decode cX6_comes 31 = .ok (.aload_n 0, 1) := dk_42 (dk_at dksX6_comes_1 8 rfl rfl)
theorem dX6_comes_32 : decode cX6_comes 32 = .ok (.getfield 22, 3) := dk_180 0 22 (dk_at dksX6_comes_1 9 rfl rfl)
theorem dX6_comes_35 : decode cX6_comes 35 = .ok (.iconst 0, 1) := dk_3 (dk_at dksX6_comes_1 12 rfl rfl)
theorem dX6_comes_36 : decode cX6_comes 36 = .ok (.invokevirtual 70, 3) := dk_182 0 70 (dk_at dksX6_comes_1 13 rfl rfl)
theorem dX6_comes_39 : decode cX6_comes 39 = .ok (.checkcast 55, 3) := dk_192 0 55 (dk_at dksX6_comes_1 16 rfl rfl)
theorem dX6_comes_42 : decode cX6_comes 42 = .ok (.astore_n 3, 1) := dk_78 (dk_at dksX6_comes_1 19 rfl rfl)
theorem dX6_comes_43 : decode cX6_comes 43 = .ok (.return_, 1) := dk_177 (dk_at dksX6_comes_1 20 rfl rfl)
abbrev cX6_isMost : ByteArray := prog_19_method_2_code
def yX6_isMost : MethodName := ⟨RX6, "isMost", "(II)Z"⟩
def dkwX6_isMost_0 : List UInt8 := [5, 26, 27, 126, 184, 0, 3, 104, 27, 184, 0, 3, 164, 0, 7, 4, 167, 0, 4, 3, 172]
abbrev dktX6_isMost_0 : List UInt8 := dkwX6_isMost_0 ++ []
theorem dksX6_isMost_0 : cX6_isMost.data.toList.drop 0 = dktX6_isMost_0 := by decide +kernel
theorem dX6_isMost_0 : decode cX6_isMost 0 = .ok (.iconst 2, 1) := dk_5 (dk_at dksX6_isMost_0 0 rfl rfl)
theorem dX6_isMost_1 : decode cX6_isMost 1 = .ok (.iload_n 0, 1) := dk_26 (dk_at dksX6_isMost_0 1 rfl rfl)
theorem dX6_isMost_2 : decode cX6_isMost 2 = .ok (.iload_n 1, 1) := dk_27 (dk_at dksX6_isMost_0 2 rfl rfl)
theorem dX6_isMost_3 : decode cX6_isMost 3 = .ok (.iand, 1) := dk_126 (dk_at dksX6_isMost_0 3 rfl rfl)
theorem dX6_isMost_4 : decode cX6_isMost 4 = .ok (.invokestatic 3, 3) := dk_184 0 3 (dk_at dksX6_isMost_0 4 rfl rfl)
theorem dX6_isMost_7 : decode cX6_isMost 7 = .ok (.imul, 1) := dk_104 (dk_at dksX6_isMost_0 7 rfl rfl)
theorem dX6_isMost_8 : decode cX6_isMost 8 = .ok (.iload_n 1, 1) := dk_27 (dk_at dksX6_isMost_0 8 rfl rfl)
theorem dX6_isMost_9 : decode cX6_isMost 9 = .ok (.invokestatic 3, 3) := dk_184 0 3 (dk_at dksX6_isMost_0 9 rfl rfl)
theorem dX6_isMost_12 : decode cX6_isMost 12 = .ok (.if_icmp .le 7, 3) := dk_164 0 7 (dk_at dksX6_isMost_0 12 rfl rfl)
theorem dX6_isMost_15 : decode cX6_isMost 15 = .ok (.iconst 1, 1) := dk_4 (dk_at dksX6_isMost_0 15 rfl rfl)
theorem dX6_isMost_16 : decode cX6_isMost 16 = .ok (.goto 4, 3) := dk_167 0 4 (dk_at dksX6_isMost_0 16 rfl rfl)
theorem dX6_isMost_19 : decode cX6_isMost 19 = .ok (.iconst 0, 1) := dk_3 (dk_at dksX6_isMost_0 19 rfl rfl)
theorem dX6_isMost_20 : decode cX6_isMost 20 = .ok (.ireturn, 1) := dk_172 (dk_at dksX6_isMost_0 20 rfl rfl)
abbrev cX6_bits : ByteArray := prog_19_method_1_code
def yX6_bits : MethodName := ⟨RX6, "bits", "(I)I"⟩
def dkwX6_bits_1 : List UInt8 := [172]
abbrev dktX6_bits_1 : List UInt8 := dkwX6_bits_1 ++ []
def dkwX6_bits_0 : List UInt8 := [3, 60, 3, 61, 28, 8, 162, 0, 17, 27, 26, 28, 122, 4, 126, 96, 60, 132, 2, 1, 167, 255, 240, 27]
abbrev dktX6_bits_0 : List UInt8 := dkwX6_bits_0 ++ dktX6_bits_1
theorem dksX6_bits_0 : cX6_bits.data.toList.drop 0 = dktX6_bits_0 := by decide +kernel
theorem dksX6_bits_1 : cX6_bits.data.toList.drop 24 = dktX6_bits_1 := dk_seg dksX6_bits_0 24 rfl rfl
theorem dX6_bits_0 : decode cX6_bits 0 = .ok (.iconst 0, 1) := dk_3 (dk_at dksX6_bits_0 0 rfl rfl)
theorem dX6_bits_1 : decode cX6_bits 1 = .ok (.istore_n 1, 1) := dk_60 (dk_at dksX6_bits_0 1 rfl rfl)
theorem dX6_bits_2 : decode cX6_bits 2 = .ok (.iconst 0, 1) := dk_3 (dk_at dksX6_bits_0 2 rfl rfl)
theorem dX6_bits_3 : decode cX6_bits 3 = .ok (.istore_n 2, 1) := dk_61 (dk_at dksX6_bits_0 3 rfl rfl)
theorem dX6_bits_4 : decode cX6_bits 4 = .ok (.iload_n 2, 1) := dk_28 (dk_at dksX6_bits_0 4 rfl rfl)
theorem dX6_bits_5 : decode cX6_bits 5 = .ok (.iconst 5, 1) := dk_8 (dk_at dksX6_bits_0 5 rfl rfl)
theorem dX6_bits_6 : decode cX6_bits 6 = .ok (.if_icmp .ge 17, 3) := dk_162 0 17 (dk_at dksX6_bits_0 6 rfl rfl)
theorem dX6_bits_9 : decode cX6_bits 9 = .ok (.iload_n 1, 1) := dk_27 (dk_at dksX6_bits_0 9 rfl rfl)
theorem dX6_bits_10 : decode cX6_bits 10 = .ok (.iload_n 0, 1) := dk_26 (dk_at dksX6_bits_0 10 rfl rfl)
theorem dX6_bits_11 : decode cX6_bits 11 = .ok (.iload_n 2, 1) := dk_28 (dk_at dksX6_bits_0 11 rfl rfl)
theorem dX6_bits_12 : decode cX6_bits 12 = .ok (.ishr, 1) := dk_122 (dk_at dksX6_bits_0 12 rfl rfl)
theorem dX6_bits_13 : decode cX6_bits 13 = .ok (.iconst 1, 1) := dk_4 (dk_at dksX6_bits_0 13 rfl rfl)
theorem dX6_bits_14 : decode cX6_bits 14 = .ok (.iand, 1) := dk_126 (dk_at dksX6_bits_0 14 rfl rfl)
theorem dX6_bits_15 : decode cX6_bits 15 = .ok (.iadd, 1) := dk_96 (dk_at dksX6_bits_0 15 rfl rfl)
theorem dX6_bits_16 : decode cX6_bits 16 = .ok (.istore_n 1, 1) := dk_60 (dk_at dksX6_bits_0 16 rfl rfl)
theorem dX6_bits_17 : decode cX6_bits 17 = .ok (.iinc 2 1, 3) := dk_132 2 1 (dk_at dksX6_bits_0 17 rfl rfl)
theorem dX6_bits_20 : decode cX6_bits 20 = .ok (.goto (-16), 3) := dk_167 255 240 (dk_at dksX6_bits_0 20 rfl rfl)
theorem dX6_bits_23 : decode cX6_bits 23 = .ok (.iload_n 1, 1) := dk_27 (dk_at dksX6_bits_0 23 rfl rfl)
theorem dX6_bits_24 : decode cX6_bits 24 = .ok (.ireturn, 1) := dk_172 (dk_at dksX6_bits_1 0 rfl rfl)
abbrev cX6_sync : ByteArray := prog_19_method_13_code
def yX6_sync : MethodName := ⟨RX6, "sync", "(I)I"⟩
def dkwX6_sync_0 : List UInt8 := [42, 27, 182, 0, 87, 153, 0, 7, 3, 167, 0, 12, 42, 180, 0, 15, 27, 50, 182, 0, 90, 172]
abbrev dktX6_sync_0 : List UInt8 := dkwX6_sync_0 ++ []
theorem dksX6_sync_0 : cX6_sync.data.toList.drop 0 = dktX6_sync_0 := by decide +kernel
theorem dX6_sync_0 : decode cX6_sync 0 = .ok (.aload_n 0, 1) := dk_42 (dk_at dksX6_sync_0 0 rfl rfl)
theorem dX6_sync_1 : decode cX6_sync 1 = .ok (.iload_n 1, 1) := dk_27 (dk_at dksX6_sync_0 1 rfl rfl)
theorem dX6_sync_2 : decode cX6_sync 2 = .ok (.invokevirtual 87, 3) := dk_182 0 87 (dk_at dksX6_sync_0 2 rfl rfl)
theorem dX6_sync_5 : decode cX6_sync 5 = .ok (.ifCond .eq 7, 3) := dk_153 0 7 (dk_at dksX6_sync_0 5 rfl rfl)
theorem dX6_sync_8 : decode cX6_sync 8 = .ok (.iconst 0, 1) := dk_3 (dk_at dksX6_sync_0 8 rfl rfl)
theorem dX6_sync_9 : decode cX6_sync 9 = .ok (.goto 12, 3) := dk_167 0 12 (dk_at dksX6_sync_0 9 rfl rfl)
theorem dX6_sync_12 : decode cX6_sync 12 = .ok (.aload_n 0, 1) := dk_42 (dk_at dksX6_sync_0 12 rfl rfl)
theorem dX6_sync_13 : decode cX6_sync 13 = .ok (.getfield 15, 3) := dk_180 0 15 (dk_at dksX6_sync_0 13 rfl rfl)
theorem dX6_sync_16 : decode cX6_sync 16 = .ok (.iload_n 1, 1) := dk_27 (dk_at dksX6_sync_0 16 rfl rfl)
theorem dX6_sync_17 : decode cX6_sync 17 = .ok (.aaload, 1) := dk_50 (dk_at dksX6_sync_0 17 rfl rfl)
theorem dX6_sync_18 : decode cX6_sync 18 = .ok (.invokevirtual 90, 3) := dk_182 0 90 (dk_at dksX6_sync_0 18 rfl rfl)
theorem dX6_sync_21 : decode cX6_sync 21 = .ok (.ireturn, 1) := dk_172 (dk_at dksX6_sync_0 21 rfl rfl)
abbrev cX6_failsDown : ByteArray := prog_19_method_12_code
def yX6_failsDown : MethodName := ⟨RX6, "failsDown", "(I)Z"⟩
def dkwX6_failsDown_1 : List UInt8 := [153, 0, 7, 3, 167, 0, 4, 5, 182, 0, 43, 172]
abbrev dktX6_failsDown_1 : List UInt8 := dkwX6_failsDown_1 ++ []
def dkwX6_failsDown_0 : List UInt8 := [42, 27, 3, 7, 184, 0, 39, 154, 0, 7, 4, 167, 0, 20, 42, 180, 0, 15, 27, 50, 180, 0, 77]
abbrev dktX6_failsDown_0 : List UInt8 := dkwX6_failsDown_0 ++ dktX6_failsDown_1
theorem dksX6_failsDown_0 : cX6_failsDown.data.toList.drop 0 = dktX6_failsDown_0 := by decide +kernel
theorem dksX6_failsDown_1 : cX6_failsDown.data.toList.drop 23 = dktX6_failsDown_1 := dk_seg dksX6_failsDown_0 23 rfl rfl
theorem dX6_failsDown_0 : decode cX6_failsDown 0 = .ok (.aload_n 0, 1) := dk_42 (dk_at dksX6_failsDown_0 0 rfl rfl)
theorem dX6_failsDown_1 : decode cX6_failsDown 1 = .ok (.iload_n 1, 1) := dk_27 (dk_at dksX6_failsDown_0 1 rfl rfl)
theorem dX6_failsDown_2 : decode cX6_failsDown 2 = .ok (.iconst 0, 1) := dk_3 (dk_at dksX6_failsDown_0 2 rfl rfl)
theorem dX6_failsDown_3 : decode cX6_failsDown 3 = .ok (.iconst 4, 1) := dk_7 (dk_at dksX6_failsDown_0 3 rfl rfl)
theorem dX6_failsDown_4 : decode cX6_failsDown 4 = .ok (.invokestatic 39, 3) := dk_184 0 39 (dk_at dksX6_failsDown_0 4 rfl rfl)
theorem dX6_failsDown_7 : decode cX6_failsDown 7 = .ok (.ifCond .ne 7, 3) := dk_154 0 7 (dk_at dksX6_failsDown_0 7 rfl rfl)
theorem dX6_failsDown_10 : decode cX6_failsDown 10 = .ok (.iconst 1, 1) := dk_4 (dk_at dksX6_failsDown_0 10 rfl rfl)
theorem dX6_failsDown_11 : decode cX6_failsDown 11 = .ok (.goto 20, 3) := dk_167 0 20 (dk_at dksX6_failsDown_0 11 rfl rfl)
theorem dX6_failsDown_14 : decode cX6_failsDown 14 = .ok (.aload_n 0, 1) := dk_42 (dk_at dksX6_failsDown_0 14 rfl rfl)
theorem dX6_failsDown_15 : decode cX6_failsDown 15 = .ok (.getfield 15, 3) := dk_180 0 15 (dk_at dksX6_failsDown_0 15 rfl rfl)
theorem dX6_failsDown_18 : decode cX6_failsDown 18 = .ok (.iload_n 1, 1) := dk_27 (dk_at dksX6_failsDown_0 18 rfl rfl)
theorem dX6_failsDown_19 : decode cX6_failsDown 19 = .ok (.aaload, 1) := dk_50 (dk_at dksX6_failsDown_0 19 rfl rfl)
theorem dX6_failsDown_20 : decode cX6_failsDown 20 = .ok (.getfield 77, 3) := dk_180 0 77 (dk_at dksX6_failsDown_0 20 rfl rfl)
theorem dX6_failsDown_23 : decode cX6_failsDown 23 = .ok (.ifCond .eq 7, 3) := dk_153 0 7 (dk_at dksX6_failsDown_1 0 rfl rfl)
theorem dX6_failsDown_26 : decode cX6_failsDown 26 = .ok (.iconst 0, 1) := dk_3 (dk_at dksX6_failsDown_1 3 rfl rfl)
theorem dX6_failsDown_27 : decode cX6_failsDown 27 = .ok (.goto 4, 3) := dk_167 0 4 (dk_at dksX6_failsDown_1 4 rfl rfl)
theorem dX6_failsDown_30 : decode cX6_failsDown 30 = .ok (.iconst 2, 1) := dk_5 (dk_at dksX6_failsDown_1 7 rfl rfl)
theorem dX6_failsDown_31 : decode cX6_failsDown 31 = .ok (.invokevirtual 43, 3) := dk_182 0 43 (dk_at dksX6_failsDown_1 8 rfl rfl)
theorem dX6_failsDown_34 : decode cX6_failsDown 34 = .ok (.ireturn, 1) := dk_172 (dk_at dksX6_failsDown_1 11 rfl rfl)
abbrev cX6_tellsHistory : ByteArray := prog_19_method_8_code
def yX6_tellsHistory : MethodName := ⟨RX6, "tellsHistory", "(ILQuorumAlmanacModel$Entry;)V"⟩
def dkwX6_tellsHistory_1 : List UInt8 := [4, 167, 0, 4, 3, 62, 177]
abbrev dktX6_tellsHistory_1 : List UInt8 := dkwX6_tellsHistory_1 ++ []
def dkwX6_tellsHistory_0 : List UInt8 := [27, 42, 180, 0, 29, 182, 0, 47, 4, 96, 160, 0, 18, 42, 180, 0, 29, 44, 182, 0, 51, 153, 0, 7]
abbrev dktX6_tellsHistory_0 : List UInt8 := dkwX6_tellsHistory_0 ++ dktX6_tellsHistory_1
theorem dksX6_tellsHistory_0 : cX6_tellsHistory.data.toList.drop 0 = dktX6_tellsHistory_0 := by decide +kernel
theorem dksX6_tellsHistory_1 : cX6_tellsHistory.data.toList.drop 24 = dktX6_tellsHistory_1 := dk_seg dksX6_tellsHistory_0 24 rfl rfl
theorem dX6_tellsHistory_0 : decode cX6_tellsHistory 0 = .ok (.iload_n 1, 1) := dk_27 (dk_at dksX6_tellsHistory_0 0 rfl rfl)
theorem dX6_tellsHistory_1 : decode cX6_tellsHistory 1 = .ok (.aload_n 0, 1) := dk_42 (dk_at dksX6_tellsHistory_0 1 rfl rfl)
theorem dX6_tellsHistory_2 : decode cX6_tellsHistory 2 = .ok (.getfield 29, 3) := dk_180 0 29 (dk_at dksX6_tellsHistory_0 2 rfl rfl)
theorem dX6_tellsHistory_5 : decode cX6_tellsHistory 5 = .ok (.invokevirtual 47, 3) := dk_182 0 47 (dk_at dksX6_tellsHistory_0 5 rfl rfl)
theorem dX6_tellsHistory_8 : decode cX6_tellsHistory 8 = .ok (.iconst 1, 1) := dk_4 (dk_at dksX6_tellsHistory_0 8 rfl rfl)
theorem dX6_tellsHistory_9 : decode cX6_tellsHistory 9 = .ok (.iadd, 1) := dk_96 (dk_at dksX6_tellsHistory_0 9 rfl rfl)
theorem dX6_tellsHistory_10 : decode cX6_tellsHistory 10 = .ok (.if_icmp .ne 18, 3) := dk_160 0 18 (dk_at dksX6_tellsHistory_0 10 rfl rfl)
theorem dX6_tellsHistory_13 : decode cX6_tellsHistory 13 = .ok (.aload_n 0, 1) := dk_42 (dk_at dksX6_tellsHistory_0 13 rfl rfl)
theorem dX6_tellsHistory_14 : decode cX6_tellsHistory 14 = .ok (.getfield 29, 3) := dk_180 0 29 (dk_at dksX6_tellsHistory_0 14 rfl rfl)
theorem dX6_tellsHistory_17 : decode cX6_tellsHistory 17 = .ok (.aload_n 2, 1) := dk_44 (dk_at dksX6_tellsHistory_0 17 rfl rfl)
theorem dX6_tellsHistory_18 : decode cX6_tellsHistory 18 = .ok (.invokevirtual 51, 3) := dk_182 0 51 (dk_at dksX6_tellsHistory_0 18 rfl rfl)
theorem dX6_tellsHistory_21 : decode cX6_tellsHistory 21 = .ok (.ifCond .eq 7, 3) := dk_153 0 7 (dk_at dksX6_tellsHistory_0 21 rfl rfl)
theorem dX6_tellsHistory_24 : decode cX6_tellsHistory 24 = .ok (.iconst 1, 1) := dk_4 (dk_at dksX6_tellsHistory_1 0 rfl rfl)
theorem dX6_tellsHistory_25 : decode cX6_tellsHistory 25 = .ok (.goto 4, 3) := dk_167 0 4 (dk_at dksX6_tellsHistory_1 1 rfl rfl)
theorem dX6_tellsHistory_28 : decode cX6_tellsHistory 28 = .ok (.iconst 0, 1) := dk_3 (dk_at dksX6_tellsHistory_1 4 rfl rfl)
theorem dX6_tellsHistory_29 : decode cX6_tellsHistory 29 = .ok (.istore_n 3, 1) := dk_62 (dk_at dksX6_tellsHistory_1 5 rfl rfl)
theorem dX6_tellsHistory_30 : decode cX6_tellsHistory 30 = .ok (.return_, 1) := dk_177 (dk_at dksX6_tellsHistory_1 6 rfl rfl)
abbrev cX6_crash : ByteArray := prog_19_method_14_code
def yX6_crash : MethodName := ⟨RX6, "crash", "(I)I"⟩
def dkwX6_crash_0 : List UInt8 := [42, 27, 182, 0, 87, 153, 0, 7, 3, 167, 0, 12, 42, 180, 0, 15, 27, 50, 182, 0, 93, 172]
abbrev dktX6_crash_0 : List UInt8 := dkwX6_crash_0 ++ []
theorem dksX6_crash_0 : cX6_crash.data.toList.drop 0 = dktX6_crash_0 := by decide +kernel
theorem dX6_crash_0 : decode cX6_crash 0 = .ok (.aload_n 0, 1) := dk_42 (dk_at dksX6_crash_0 0 rfl rfl)
theorem dX6_crash_1 : decode cX6_crash 1 = .ok (.iload_n 1, 1) := dk_27 (dk_at dksX6_crash_0 1 rfl rfl)
theorem dX6_crash_2 : decode cX6_crash 2 = .ok (.invokevirtual 87, 3) := dk_182 0 87 (dk_at dksX6_crash_0 2 rfl rfl)
theorem dX6_crash_5 : decode cX6_crash 5 = .ok (.ifCond .eq 7, 3) := dk_153 0 7 (dk_at dksX6_crash_0 5 rfl rfl)
theorem dX6_crash_8 : decode cX6_crash 8 = .ok (.iconst 0, 1) := dk_3 (dk_at dksX6_crash_0 8 rfl rfl)
theorem dX6_crash_9 : decode cX6_crash 9 = .ok (.goto 12, 3) := dk_167 0 12 (dk_at dksX6_crash_0 9 rfl rfl)
theorem dX6_crash_12 : decode cX6_crash 12 = .ok (.aload_n 0, 1) := dk_42 (dk_at dksX6_crash_0 12 rfl rfl)
theorem dX6_crash_13 : decode cX6_crash 13 = .ok (.getfield 15, 3) := dk_180 0 15 (dk_at dksX6_crash_0 13 rfl rfl)
theorem dX6_crash_16 : decode cX6_crash 16 = .ok (.iload_n 1, 1) := dk_27 (dk_at dksX6_crash_0 16 rfl rfl)
theorem dX6_crash_17 : decode cX6_crash 17 = .ok (.aaload, 1) := dk_50 (dk_at dksX6_crash_0 17 rfl rfl)
theorem dX6_crash_18 : decode cX6_crash 18 = .ok (.invokevirtual 93, 3) := dk_182 0 93 (dk_at dksX6_crash_0 18 rfl rfl)
theorem dX6_crash_21 : decode cX6_crash 21 = .ok (.ireturn, 1) := dk_172 (dk_at dksX6_crash_0 21 rfl rfl)
abbrev cX6_start : ByteArray := prog_19_method_15_code
def yX6_start : MethodName := ⟨RX6, "start", "(I)I"⟩
def dkwX6_start_5 : List UInt8 := [44, 180, 0, 81, 172]
abbrev dktX6_start_5 : List UInt8 := dkwX6_start_5 ++ []
def dkwX6_start_4 : List UInt8 := [167, 255, 209, 44, 4, 181, 0, 77, 44, 44, 180, 0, 81, 181, 0, 102, 44, 44, 180, 0, 81, 181, 0, 105]
abbrev dktX6_start_4 : List UInt8 := dkwX6_start_4 ++ dktX6_start_5
def dkwX6_start_3 : List UInt8 := [180, 0, 15, 29, 50, 180, 0, 81, 184, 0, 96, 167, 0, 7, 44, 180, 0, 81, 181, 0, 81, 132, 3, 1]
abbrev dktX6_start_3 : List UInt8 := dkwX6_start_3 ++ dktX6_start_4
def dkwX6_start_2 : List UInt8 := [62, 29, 8, 162, 0, 48, 44, 42, 180, 0, 15, 29, 50, 180, 0, 77, 153, 0, 22, 44, 180, 0, 81, 42]
abbrev dktX6_start_2 : List UInt8 := dkwX6_start_2 ++ dktX6_start_3
def dkwX6_start_1 : List UInt8 := [153, 0, 7, 5, 167, 0, 4, 3, 182, 0, 43, 153, 0, 5, 3, 172, 42, 180, 0, 15, 27, 50, 77, 3]
abbrev dktX6_start_1 : List UInt8 := dkwX6_start_1 ++ dktX6_start_2
def dkwX6_start_0 : List UInt8 := [42, 27, 3, 7, 184, 0, 39, 154, 0, 7, 4, 167, 0, 20, 42, 180, 0, 15, 27, 50, 180, 0, 77]
abbrev dktX6_start_0 : List UInt8 := dkwX6_start_0 ++ dktX6_start_1
theorem dksX6_start_0 : cX6_start.data.toList.drop 0 = dktX6_start_0 := by decide +kernel
theorem dksX6_start_1 : cX6_start.data.toList.drop 23 = dktX6_start_1 := dk_seg dksX6_start_0 23 rfl rfl
theorem dksX6_start_2 : cX6_start.data.toList.drop 47 = dktX6_start_2 := dk_seg dksX6_start_1 24 rfl rfl
theorem dksX6_start_3 : cX6_start.data.toList.drop 71 = dktX6_start_3 := dk_seg dksX6_start_2 24 rfl rfl
theorem dksX6_start_4 : cX6_start.data.toList.drop 95 = dktX6_start_4 := dk_seg dksX6_start_3 24 rfl rfl
theorem dksX6_start_5 : cX6_start.data.toList.drop 119 = dktX6_start_5 := dk_seg dksX6_start_4 24 rfl rfl
theorem dX6_start_0 : decode cX6_start 0 = .ok (.aload_n 0, 1) := dk_42 (dk_at dksX6_start_0 0 rfl rfl)
theorem dX6_start_1 : decode cX6_start 1 = .ok (.iload_n 1, 1) := dk_27 (dk_at dksX6_start_0 1 rfl rfl)
theorem dX6_start_2 : decode cX6_start 2 = .ok (.iconst 0, 1) := dk_3 (dk_at dksX6_start_0 2 rfl rfl)
theorem dX6_start_3 : decode cX6_start 3 = .ok (.iconst 4, 1) := dk_7 (dk_at dksX6_start_0 3 rfl rfl)
theorem dX6_start_4 : decode cX6_start 4 = .ok (.invokestatic 39, 3) := dk_184 0 39 (dk_at dksX6_start_0 4 rfl rfl)
theorem dX6_start_7 : decode cX6_start 7 = .ok (.ifCond .ne 7, 3) := dk_154 0 7 (dk_at dksX6_start_0 7 rfl rfl)
theorem dX6_start_10 : decode cX6_start 10 = .ok (.iconst 1, 1) := dk_4 (dk_at dksX6_start_0 10 rfl rfl)
theorem dX6_start_11 : decode cX6_start 11 = .ok (.goto 20, 3) := dk_167 0 20 (dk_at dksX6_start_0 11 rfl rfl)
theorem dX6_start_14 : decode cX6_start 14 = .ok (.aload_n 0, 1) := dk_42 (dk_at dksX6_start_0 14 rfl rfl)
theorem dX6_start_15 : decode cX6_start 15 = .ok (.getfield 15, 3) := dk_180 0 15 (dk_at dksX6_start_0 15 rfl rfl)
theorem dX6_start_18 : decode cX6_start 18 = .ok (.iload_n 1, 1) := dk_27 (dk_at dksX6_start_0 18 rfl rfl)
theorem dX6_start_19 : decode cX6_start 19 = .ok (.aaload, 1) := dk_50 (dk_at dksX6_start_0 19 rfl rfl)
theorem dX6_start_20 : decode cX6_start 20 = .ok (.getfield 77, 3) := dk_180 0 77 (dk_at dksX6_start_0 20 rfl rfl)
theorem dX6_start_23 : decode cX6_start 23 = .ok (.ifCond .eq 7, 3) := dk_153 0 7 (dk_at dksX6_start_1 0 rfl rfl)
theorem dX6_start_26 : decode cX6_start 26 = .ok (.iconst 2, 1) := dk_5 (dk_at dksX6_start_1 3 rfl rfl)
theorem dX6_start_27 : decode cX6_start 27 = .ok (.goto 4, 3) := dk_167 0 4 (dk_at dksX6_start_1 4 rfl rfl)
theorem dX6_start_30 : decode cX6_start 30 = .ok (.iconst 0, 1) := dk_3 (dk_at dksX6_start_1 7 rfl rfl)
theorem dX6_start_31 : decode cX6_start 31 = .ok (.invokevirtual 43, 3) := dk_182 0 43 (dk_at dksX6_start_1 8 rfl rfl)
theorem dX6_start_34 : decode cX6_start 34 = .ok (.ifCond .eq 5, 3) := dk_153 0 5 (dk_at dksX6_start_1 11 rfl rfl)
theorem dX6_start_37 : decode cX6_start 37 = .ok (.iconst 0, 1) := dk_3 (dk_at dksX6_start_1 14 rfl rfl)
theorem dX6_start_38 : decode cX6_start 38 = .ok (.ireturn, 1) := dk_172 (dk_at dksX6_start_1 15 rfl rfl)
theorem dX6_start_39 : decode cX6_start 39 = .ok (.aload_n 0, 1) := dk_42 (dk_at dksX6_start_1 16 rfl rfl)
theorem dX6_start_40 : decode cX6_start 40 = .ok (.getfield 15, 3) := dk_180 0 15 (dk_at dksX6_start_1 17 rfl rfl)
theorem dX6_start_43 : decode cX6_start 43 = .ok (.iload_n 1, 1) := dk_27 (dk_at dksX6_start_1 20 rfl rfl)
theorem dX6_start_44 : decode cX6_start 44 = .ok (.aaload, 1) := dk_50 (dk_at dksX6_start_1 21 rfl rfl)
theorem dX6_start_45 : decode cX6_start 45 = .ok (.astore_n 2, 1) := dk_77 (dk_at dksX6_start_1 22 rfl rfl)
theorem dX6_start_46 : decode cX6_start 46 = .ok (.iconst 0, 1) := dk_3 (dk_at dksX6_start_1 23 rfl rfl)
theorem dX6_start_47 : decode cX6_start 47 = .ok (.istore_n 3, 1) := dk_62 (dk_at dksX6_start_2 0 rfl rfl)
theorem dX6_start_48 : decode cX6_start 48 = .ok (.iload_n 3, 1) := dk_29 (dk_at dksX6_start_2 1 rfl rfl)
theorem dX6_start_49 : decode cX6_start 49 = .ok (.iconst 5, 1) := dk_8 (dk_at dksX6_start_2 2 rfl rfl)
theorem dX6_start_50 : decode cX6_start 50 = .ok (.if_icmp .ge 48, 3) := dk_162 0 48 (dk_at dksX6_start_2 3 rfl rfl)
theorem dX6_start_53 : decode cX6_start 53 = .ok (.aload_n 2, 1) := dk_44 (dk_at dksX6_start_2 6 rfl rfl)
theorem dX6_start_54 : decode cX6_start 54 = .ok (.aload_n 0, 1) := dk_42 (dk_at dksX6_start_2 7 rfl rfl)
theorem dX6_start_55 : decode cX6_start 55 = .ok (.getfield 15, 3) := dk_180 0 15 (dk_at dksX6_start_2 8 rfl rfl)
theorem dX6_start_58 : decode cX6_start 58 = .ok (.iload_n 3, 1) := dk_29 (dk_at dksX6_start_2 11 rfl rfl)
theorem dX6_start_59 : decode cX6_start 59 = .ok (.aaload, 1) := dk_50 (dk_at dksX6_start_2 12 rfl rfl)
theorem dX6_start_60 : decode cX6_start 60 = .ok (.getfield 77, 3) := dk_180 0 77 (dk_at dksX6_start_2 13 rfl rfl)
theorem dX6_start_63 : decode cX6_start 63 = .ok (.ifCond .eq 22, 3) := dk_153 0 22 (dk_at dksX6_start_2 16 rfl rfl)
theorem dX6_start_66 : decode cX6_start 66 = .ok (.aload_n 2, 1) := dk_44 (dk_at dksX6_start_2 19 rfl rfl)
theorem dX6_start_67 : decode cX6_start 67 = .ok (.getfield 81, 3) := dk_180 0 81 (dk_at dksX6_start_2 20 rfl rfl)
theorem dX6_start_70 : decode cX6_start 70 = .ok (.aload_n 0, 1) := dk_42 (dk_at dksX6_start_2 23 rfl rfl)
theorem dX6_start_71 : decode cX6_start 71 = .ok (.getfield 15, 3) := dk_180 0 15 (dk_at dksX6_start_3 0 rfl rfl)
theorem dX6_start_74 : decode cX6_start 74 = .ok (.iload_n 3, 1) := dk_29 (dk_at dksX6_start_3 3 rfl rfl)
theorem dX6_start_75 : decode cX6_start 75 = .ok (.aaload, 1) := dk_50 (dk_at dksX6_start_3 4 rfl rfl)
theorem dX6_start_76 : decode cX6_start 76 = .ok (.getfield 81, 3) := dk_180 0 81 (dk_at dksX6_start_3 5 rfl rfl)
theorem dX6_start_79 : decode cX6_start 79 = .ok (.invokestatic 96, 3) := dk_184 0 96 (dk_at dksX6_start_3 8 rfl rfl)
theorem dX6_start_82 : decode cX6_start 82 = .ok (.goto 7, 3) := dk_167 0 7 (dk_at dksX6_start_3 11 rfl rfl)
theorem dX6_start_85 : decode cX6_start 85 = .ok (.aload_n 2, 1) := dk_44 (dk_at dksX6_start_3 14 rfl rfl)
theorem dX6_start_86 : decode cX6_start 86 = .ok (.getfield 81, 3) := dk_180 0 81 (dk_at dksX6_start_3 15 rfl rfl)
theorem dX6_start_89 : decode cX6_start 89 = .ok (.putfield 81, 3) := dk_181 0 81 (dk_at dksX6_start_3 18 rfl rfl)
theorem dX6_start_92 : decode cX6_start 92 = .ok (.iinc 3 1, 3) := dk_132 3 1 (dk_at dksX6_start_3 21 rfl rfl)
theorem dX6_start_95 : decode cX6_start 95 = .ok (.goto (-47), 3) := dk_167 255 209 (dk_at dksX6_start_4 0 rfl rfl)
theorem dX6_start_98 : decode cX6_start 98 = .ok (.aload_n 2, 1) := dk_44 (dk_at dksX6_start_4 3 rfl rfl)
theorem dX6_start_99 : decode cX6_start 99 = .ok (.iconst 1, 1) := dk_4 (dk_at dksX6_start_4 4 rfl rfl)
theorem dX6_start_100 : decode cX6_start 100 = .ok (.putfield 77, 3) := dk_181 0 77 (dk_at dksX6_start_4 5 rfl rfl)
theorem dX6_start_103 : decode cX6_start 103 = .ok (.aload_n 2, 1) := dk_44 (dk_at dksX6_start_4 8 rfl rfl)
theorem dX6_start_104 : decode cX6_start 104 = .ok (.aload_n 2, 1) := dk_44 (dk_at dksX6_start_4 9 rfl rfl)
theorem dX6_start_105 : decode cX6_start 105 = .ok (.getfield 81, 3) := dk_180 0 81 (dk_at dksX6_start_4 10 rfl rfl)
theorem dX6_start_108 : decode cX6_start 108 = .ok (.putfield 102, 3) := dk_181 0 102 (dk_at dksX6_start_4 13 rfl rfl)
theorem dX6_start_111 : decode cX6_start 111 = .ok (.aload_n 2, 1) := dk_44 (dk_at dksX6_start_4 16 rfl rfl)
theorem dX6_start_112 : decode cX6_start 112 = .ok (.aload_n 2, 1) := dk_44 (dk_at dksX6_start_4 17 rfl rfl)
theorem dX6_start_113 : decode cX6_start 113 = .ok (.getfield 81, 3) := dk_180 0 81 (dk_at dksX6_start_4 18 rfl rfl)
theorem dX6_start_116 : decode cX6_start 116 = .ok (.putfield 105, 3) := dk_181 0 105 (dk_at dksX6_start_4 21 rfl rfl)
theorem dX6_start_119 : decode cX6_start 119 = .ok (.aload_n 2, 1) := dk_44 (dk_at dksX6_start_5 0 rfl rfl)
theorem dX6_start_120 : decode cX6_start 120 = .ok (.getfield 81, 3) := dk_180 0 81 (dk_at dksX6_start_5 1 rfl rfl)
theorem dX6_start_123 : decode cX6_start 123 = .ok (.ireturn, 1) := dk_172 (dk_at dksX6_start_5 4 rfl rfl)
abbrev cX6_compact : ByteArray := prog_19_method_16_code
def yX6_compact : MethodName := ⟨RX6, "compact", "(I)I"⟩
def dkwX6_compact_2 : List UInt8 := [182, 0, 43, 153, 0, 7, 3, 167, 0, 7, 44, 182, 0, 120, 172]
abbrev dktX6_compact_2 : List UInt8 := dkwX6_compact_2 ++ []
def dkwX6_compact_1 : List UInt8 := [153, 0, 17, 44, 180, 0, 108, 44, 180, 0, 111, 180, 0, 115, 160, 0, 7, 5, 167, 0, 4, 3]
abbrev dktX6_compact_1 : List UInt8 := dkwX6_compact_1 ++ dktX6_compact_2
def dkwX6_compact_0 : List UInt8 := [42, 27, 182, 0, 74, 153, 0, 5, 3, 172, 42, 180, 0, 15, 27, 50, 77, 42, 44, 180, 0, 77]
abbrev dktX6_compact_0 : List UInt8 := dkwX6_compact_0 ++ dktX6_compact_1
theorem dksX6_compact_0 : cX6_compact.data.toList.drop 0 = dktX6_compact_0 := by decide +kernel
theorem dksX6_compact_1 : cX6_compact.data.toList.drop 22 = dktX6_compact_1 := dk_seg dksX6_compact_0 22 rfl rfl
theorem dksX6_compact_2 : cX6_compact.data.toList.drop 44 = dktX6_compact_2 := dk_seg dksX6_compact_1 22 rfl rfl
theorem dX6_compact_0 : decode cX6_compact 0 = .ok (.aload_n 0, 1) := dk_42 (dk_at dksX6_compact_0 0 rfl rfl)
theorem dX6_compact_1 : decode cX6_compact 1 = .ok (.iload_n 1, 1) := dk_27 (dk_at dksX6_compact_0 1 rfl rfl)
theorem dX6_compact_2 : decode cX6_compact 2 = .ok (.invokevirtual 74, 3) := dk_182 0 74 (dk_at dksX6_compact_0 2 rfl rfl)
theorem dX6_compact_5 : decode cX6_compact 5 = .ok (.ifCond .eq 5, 3) := dk_153 0 5 (dk_at dksX6_compact_0 5 rfl rfl)
theorem dX6_compact_8 : decode cX6_compact 8 = .ok (.iconst 0, 1) := dk_3 (dk_at dksX6_compact_0 8 rfl rfl)
theorem dX6_compact_9 : decode cX6_compact 9 = .ok (.ireturn, 1) := dk_172 (dk_at dksX6_compact_0 9 rfl rfl)
theorem dX6_compact_10 : decode cX6_compact 10 = .ok (.aload_n 0, 1) := dk_42 (dk_at dksX6_compact_0 10 rfl rfl)
theorem dX6_compact_11 : decode cX6_compact 11 = .ok (.getfield 15, 3) := dk_180 0 15 (dk_at dksX6_compact_0 11 rfl rfl)
theorem dX6_compact_14 : decode cX6_compact 14 = .ok (.iload_n 1, 1) := dk_27 (dk_at dksX6_compact_0 14 rfl rfl)
theorem dX6_compact_15 : decode cX6_compact 15 = .ok (.aaload, 1) := dk_50 (dk_at dksX6_compact_0 15 rfl rfl)
theorem dX6_compact_16 : decode cX6_compact 16 = .ok (.astore_n 2, 1) := dk_77 (dk_at dksX6_compact_0 16 rfl rfl)
theorem dX6_compact_17 : decode cX6_compact 17 = .ok (.aload_n 0, 1) := dk_42 (dk_at dksX6_compact_0 17 rfl rfl)
theorem dX6_compact_18 : decode cX6_compact 18 = .ok (.aload_n 2, 1) := dk_44 (dk_at dksX6_compact_0 18 rfl rfl)
theorem dX6_compact_19 : decode cX6_compact 19 = .ok (.getfield 77, 3) := dk_180 0 77 (dk_at dksX6_compact_0 19 rfl rfl)
theorem dX6_compact_22 : decode cX6_compact 22 = .ok (.ifCond .eq 17, 3) := dk_153 0 17 (dk_at dksX6_compact_1 0 rfl rfl)
theorem dX6_compact_25 : decode cX6_compact 25 = .ok (.aload_n 2, 1) := dk_44 (dk_at dksX6_compact_1 3 rfl rfl)
theorem dX6_compact_26 : decode cX6_compact 26 = .ok (.getfield 108, 3) := dk_180 0 108 (dk_at dksX6_compact_1 4 rfl rfl)
theorem dX6_compact_29 : decode cX6_compact 29 = .ok (.aload_n 2, 1) := dk_44 (dk_at dksX6_compact_1 7 rfl rfl)
theorem dX6_compact_30 : decode cX6_compact 30 = .ok (.getfield 111, 3) := dk_180 0 111 (dk_at dksX6_compact_1 8 rfl rfl)
theorem dX6_compact_33 : decode cX6_compact 33 = .ok (.getfield 115, 3) := dk_180 0 115 (dk_at dksX6_compact_1 11 rfl rfl)
theorem dX6_compact_36 : decode cX6_compact 36 = .ok (.if_icmp .ne 7, 3) := dk_160 0 7 (dk_at dksX6_compact_1 14 rfl rfl)
theorem dX6_compact_39 : decode cX6_compact 39 = .ok (.iconst 2, 1) := dk_5 (dk_at dksX6_compact_1 17 rfl rfl)
theorem dX6_compact_40 : decode cX6_compact 40 = .ok (.goto 4, 3) := dk_167 0 4 (dk_at dksX6_compact_1 18 rfl rfl)
theorem dX6_compact_43 : decode cX6_compact 43 = .ok (.iconst 0, 1) := dk_3 (dk_at dksX6_compact_1 21 rfl rfl)
theorem dX6_compact_44 : decode cX6_compact 44 = .ok (.invokevirtual 43, 3) := dk_182 0 43 (dk_at dksX6_compact_2 0 rfl rfl)
theorem dX6_compact_47 : decode cX6_compact 47 = .ok (.ifCond .eq 7, 3) := dk_153 0 7 (dk_at dksX6_compact_2 3 rfl rfl)
theorem dX6_compact_50 : decode cX6_compact 50 = .ok (.iconst 0, 1) := dk_3 (dk_at dksX6_compact_2 6 rfl rfl)
theorem dX6_compact_51 : decode cX6_compact 51 = .ok (.goto 7, 3) := dk_167 0 7 (dk_at dksX6_compact_2 7 rfl rfl)
theorem dX6_compact_54 : decode cX6_compact 54 = .ok (.aload_n 2, 1) := dk_44 (dk_at dksX6_compact_2 10 rfl rfl)
theorem dX6_compact_55 : decode cX6_compact 55 = .ok (.invokevirtual 120, 3) := dk_182 0 120 (dk_at dksX6_compact_2 11 rfl rfl)
theorem dX6_compact_58 : decode cX6_compact 58 = .ok (.ireturn, 1) := dk_172 (dk_at dksX6_compact_2 14 rfl rfl)
abbrev cX6_role : ByteArray := prog_19_method_17_code
def yX6_role : MethodName := ⟨RX6, "role", "(I)C"⟩
def dkwX6_role_1 : List UInt8 := [42, 180, 0, 15, 27, 50, 180, 0, 123, 167, 0, 5, 16, 100, 172]
abbrev dktX6_role_1 : List UInt8 := dkwX6_role_1 ++ []
def dkwX6_role_0 : List UInt8 := [42, 27, 182, 0, 74, 153, 0, 7, 3, 167, 0, 29, 42, 180, 0, 15, 27, 50, 180, 0, 77, 153, 0, 15]
abbrev dktX6_role_0 : List UInt8 := dkwX6_role_0 ++ dktX6_role_1
theorem dksX6_role_0 : cX6_role.data.toList.drop 0 = dktX6_role_0 := by decide +kernel
theorem dksX6_role_1 : cX6_role.data.toList.drop 24 = dktX6_role_1 := dk_seg dksX6_role_0 24 rfl rfl
theorem dX6_role_0 : decode cX6_role 0 = .ok (.aload_n 0, 1) := dk_42 (dk_at dksX6_role_0 0 rfl rfl)
theorem dX6_role_1 : decode cX6_role 1 = .ok (.iload_n 1, 1) := dk_27 (dk_at dksX6_role_0 1 rfl rfl)
theorem dX6_role_2 : decode cX6_role 2 = .ok (.invokevirtual 74, 3) := dk_182 0 74 (dk_at dksX6_role_0 2 rfl rfl)
theorem dX6_role_5 : decode cX6_role 5 = .ok (.ifCond .eq 7, 3) := dk_153 0 7 (dk_at dksX6_role_0 5 rfl rfl)
theorem dX6_role_8 : decode cX6_role 8 = .ok (.iconst 0, 1) := dk_3 (dk_at dksX6_role_0 8 rfl rfl)
theorem dX6_role_9 : decode cX6_role 9 = .ok (.goto 29, 3) := dk_167 0 29 (dk_at dksX6_role_0 9 rfl rfl)
theorem dX6_role_12 : decode cX6_role 12 = .ok (.aload_n 0, 1) := dk_42 (dk_at dksX6_role_0 12 rfl rfl)
theorem dX6_role_13 : decode cX6_role 13 = .ok (.getfield 15, 3) := dk_180 0 15 (dk_at dksX6_role_0 13 rfl rfl)
theorem dX6_role_16 : decode cX6_role 16 = .ok (.iload_n 1, 1) := dk_27 (dk_at dksX6_role_0 16 rfl rfl)
theorem dX6_role_17 : decode cX6_role 17 = .ok (.aaload, 1) := dk_50 (dk_at dksX6_role_0 17 rfl rfl)
theorem dX6_role_18 : decode cX6_role 18 = .ok (.getfield 77, 3) := dk_180 0 77 (dk_at dksX6_role_0 18 rfl rfl)
theorem dX6_role_21 : decode cX6_role 21 = .ok (.ifCond .eq 15, 3) := dk_153 0 15 (dk_at dksX6_role_0 21 rfl rfl)
theorem dX6_role_24 : decode cX6_role 24 = .ok (.aload_n 0, 1) := dk_42 (dk_at dksX6_role_1 0 rfl rfl)
theorem dX6_role_25 : decode cX6_role 25 = .ok (.getfield 15, 3) := dk_180 0 15 (dk_at dksX6_role_1 1 rfl rfl)
theorem dX6_role_28 : decode cX6_role 28 = .ok (.iload_n 1, 1) := dk_27 (dk_at dksX6_role_1 4 rfl rfl)
theorem dX6_role_29 : decode cX6_role 29 = .ok (.aaload, 1) := dk_50 (dk_at dksX6_role_1 5 rfl rfl)
theorem dX6_role_30 : decode cX6_role 30 = .ok (.getfield 123, 3) := dk_180 0 123 (dk_at dksX6_role_1 6 rfl rfl)
theorem dX6_role_33 : decode cX6_role 33 = .ok (.goto 5, 3) := dk_167 0 5 (dk_at dksX6_role_1 9 rfl rfl)
theorem dX6_role_36 : decode cX6_role 36 = .ok (.bipush 100, 2) := dk_16 100 (dk_at dksX6_role_1 12 rfl rfl)
theorem dX6_role_38 : decode cX6_role 38 = .ok (.ireturn, 1) := dk_172 (dk_at dksX6_role_1 14 rfl rfl)
abbrev cX6_term : ByteArray := prog_19_method_18_code
def yX6_term : MethodName := ⟨RX6, "term", "(I)I"⟩
def dkwX6_term_0 : List UInt8 := [42, 27, 182, 0, 74, 153, 0, 7, 3, 167, 0, 12, 42, 180, 0, 15, 27, 50, 180, 0, 127, 172]
abbrev dktX6_term_0 : List UInt8 := dkwX6_term_0 ++ []
theorem dksX6_term_0 : cX6_term.data.toList.drop 0 = dktX6_term_0 := by decide +kernel
theorem dX6_term_0 : decode cX6_term 0 = .ok (.aload_n 0, 1) := dk_42 (dk_at dksX6_term_0 0 rfl rfl)
theorem dX6_term_1 : decode cX6_term 1 = .ok (.iload_n 1, 1) := dk_27 (dk_at dksX6_term_0 1 rfl rfl)
theorem dX6_term_2 : decode cX6_term 2 = .ok (.invokevirtual 74, 3) := dk_182 0 74 (dk_at dksX6_term_0 2 rfl rfl)
theorem dX6_term_5 : decode cX6_term 5 = .ok (.ifCond .eq 7, 3) := dk_153 0 7 (dk_at dksX6_term_0 5 rfl rfl)
theorem dX6_term_8 : decode cX6_term 8 = .ok (.iconst 0, 1) := dk_3 (dk_at dksX6_term_0 8 rfl rfl)
theorem dX6_term_9 : decode cX6_term 9 = .ok (.goto 12, 3) := dk_167 0 12 (dk_at dksX6_term_0 9 rfl rfl)
theorem dX6_term_12 : decode cX6_term 12 = .ok (.aload_n 0, 1) := dk_42 (dk_at dksX6_term_0 12 rfl rfl)
theorem dX6_term_13 : decode cX6_term 13 = .ok (.getfield 15, 3) := dk_180 0 15 (dk_at dksX6_term_0 13 rfl rfl)
theorem dX6_term_16 : decode cX6_term 16 = .ok (.iload_n 1, 1) := dk_27 (dk_at dksX6_term_0 16 rfl rfl)
theorem dX6_term_17 : decode cX6_term 17 = .ok (.aaload, 1) := dk_50 (dk_at dksX6_term_0 17 rfl rfl)
theorem dX6_term_18 : decode cX6_term 18 = .ok (.getfield 127, 3) := dk_180 0 127 (dk_at dksX6_term_0 18 rfl rfl)
theorem dX6_term_21 : decode cX6_term 21 = .ok (.ireturn, 1) := dk_172 (dk_at dksX6_term_0 21 rfl rfl)
abbrev cX6_vote : ByteArray := prog_19_method_19_code
def yX6_vote : MethodName := ⟨RX6, "vote", "(I)I"⟩
def dkwX6_vote_2 : List UInt8 := [172]
abbrev dktX6_vote_2 : List UInt8 := dkwX6_vote_2 ++ []
def dkwX6_vote_1 : List UInt8 := [5, 167, 0, 4, 3, 182, 0, 43, 153, 0, 7, 3, 167, 0, 12, 42, 180, 0, 15, 27, 50, 180, 0, 130]
abbrev dktX6_vote_1 : List UInt8 := dkwX6_vote_1 ++ dktX6_vote_2
def dkwX6_vote_0 : List UInt8 := [42, 27, 182, 0, 74, 153, 0, 5, 3, 172, 42, 42, 180, 0, 15, 27, 50, 180, 0, 130, 2, 160, 0, 7]
abbrev dktX6_vote_0 : List UInt8 := dkwX6_vote_0 ++ dktX6_vote_1
theorem dksX6_vote_0 : cX6_vote.data.toList.drop 0 = dktX6_vote_0 := by decide +kernel
theorem dksX6_vote_1 : cX6_vote.data.toList.drop 24 = dktX6_vote_1 := dk_seg dksX6_vote_0 24 rfl rfl
theorem dksX6_vote_2 : cX6_vote.data.toList.drop 48 = dktX6_vote_2 := dk_seg dksX6_vote_1 24 rfl rfl
theorem dX6_vote_0 : decode cX6_vote 0 = .ok (.aload_n 0, 1) := dk_42 (dk_at dksX6_vote_0 0 rfl rfl)
theorem dX6_vote_1 : decode cX6_vote 1 = .ok (.iload_n 1, 1) := dk_27 (dk_at dksX6_vote_0 1 rfl rfl)
theorem dX6_vote_2 : decode cX6_vote 2 = .ok (.invokevirtual 74, 3) := dk_182 0 74 (dk_at dksX6_vote_0 2 rfl rfl)
theorem dX6_vote_5 : decode cX6_vote 5 = .ok (.ifCond .eq 5, 3) := dk_153 0 5 (dk_at dksX6_vote_0 5 rfl rfl)
theorem dX6_vote_8 : decode cX6_vote 8 = .ok (.iconst 0, 1) := dk_3 (dk_at dksX6_vote_0 8 rfl rfl)
theorem dX6_vote_9 : decode cX6_vote 9 = .ok (.ireturn, 1) := dk_172 (dk_at dksX6_vote_0 9 rfl rfl)
theorem dX6_vote_10 : decode cX6_vote 10 = .ok (.aload_n 0, 1) := dk_42 (dk_at dksX6_vote_0 10 rfl rfl)
theorem dX6_vote_11 : decode cX6_vote 11 = .ok (.aload_n 0, 1) := dk_42 (dk_at dksX6_vote_0 11 rfl rfl)
theorem dX6_vote_12 : decode cX6_vote 12 = .ok (.getfield 15, 3) := dk_180 0 15 (dk_at dksX6_vote_0 12 rfl rfl)
theorem dX6_vote_15 : decode cX6_vote 15 = .ok (.iload_n 1, 1) := dk_27 (dk_at dksX6_vote_0 15 rfl rfl)
theorem dX6_vote_16 : decode cX6_vote 16 = .ok (.aaload, 1) := dk_50 (dk_at dksX6_vote_0 16 rfl rfl)
theorem dX6_vote_17 : decode cX6_vote 17 = .ok (.getfield 130, 3) := dk_180 0 130 (dk_at dksX6_vote_0 17 rfl rfl)
theorem dX6_vote_20 : decode cX6_vote 20 = .ok (.iconst (-1), 1) := dk_2 (dk_at dksX6_vote_0 20 rfl rfl)
theorem dX6_vote_21 : decode cX6_vote 21 = .ok (.if_icmp .ne 7, 3) := dk_160 0 7 (dk_at dksX6_vote_0 21 rfl rfl)
theorem dX6_vote_24 : decode cX6_vote 24 = .ok (.iconst 2, 1) := dk_5 (dk_at dksX6_vote_1 0 rfl rfl)
theorem dX6_vote_25 : decode cX6_vote 25 = .ok (.goto 4, 3) := dk_167 0 4 (dk_at dksX6_vote_1 1 rfl rfl)
theorem dX6_vote_28 : decode cX6_vote 28 = .ok (.iconst 0, 1) := dk_3 (dk_at dksX6_vote_1 4 rfl rfl)
theorem dX6_vote_29 : decode cX6_vote 29 = .ok (.invokevirtual 43, 3) := dk_182 0 43 (dk_at dksX6_vote_1 5 rfl rfl)
theorem dX6_vote_32 : decode cX6_vote 32 = .ok (.ifCond .eq 7, 3) := dk_153 0 7 (dk_at dksX6_vote_1 8 rfl rfl)
theorem dX6_vote_35 : decode cX6_vote 35 = .ok (.iconst 0, 1) := dk_3 (dk_at dksX6_vote_1 11 rfl rfl)
theorem dX6_vote_36 : decode cX6_vote 36 = .ok (.goto 12, 3) := dk_167 0 12 (dk_at dksX6_vote_1 12 rfl rfl)
theorem dX6_vote_39 : decode cX6_vote 39 = .ok (.aload_n 0, 1) := dk_42 (dk_at dksX6_vote_1 15 rfl rfl)
theorem dX6_vote_40 : decode cX6_vote 40 = .ok (.getfield 15, 3) := dk_180 0 15 (dk_at dksX6_vote_1 16 rfl rfl)
theorem dX6_vote_43 : decode cX6_vote 43 = .ok (.iload_n 1, 1) := dk_27 (dk_at dksX6_vote_1 19 rfl rfl)
theorem dX6_vote_44 : decode cX6_vote 44 = .ok (.aaload, 1) := dk_50 (dk_at dksX6_vote_1 20 rfl rfl)
theorem dX6_vote_45 : decode cX6_vote 45 = .ok (.getfield 130, 3) := dk_180 0 130 (dk_at dksX6_vote_1 21 rfl rfl)
theorem dX6_vote_48 : decode cX6_vote 48 = .ok (.ireturn, 1) := dk_172 (dk_at dksX6_vote_2 0 rfl rfl)
abbrev cX6_clock : ByteArray := prog_19_method_20_code
def yX6_clock : MethodName := ⟨RX6, "clock", "(I)I"⟩
def dkwX6_clock_0 : List UInt8 := [42, 27, 182, 0, 74, 153, 0, 7, 3, 167, 0, 12, 42, 180, 0, 15, 27, 50, 180, 0, 81, 172]
abbrev dktX6_clock_0 : List UInt8 := dkwX6_clock_0 ++ []
theorem dksX6_clock_0 : cX6_clock.data.toList.drop 0 = dktX6_clock_0 := by decide +kernel
theorem dX6_clock_0 : decode cX6_clock 0 = .ok (.aload_n 0, 1) := dk_42 (dk_at dksX6_clock_0 0 rfl rfl)
theorem dX6_clock_1 : decode cX6_clock 1 = .ok (.iload_n 1, 1) := dk_27 (dk_at dksX6_clock_0 1 rfl rfl)
theorem dX6_clock_2 : decode cX6_clock 2 = .ok (.invokevirtual 74, 3) := dk_182 0 74 (dk_at dksX6_clock_0 2 rfl rfl)
theorem dX6_clock_5 : decode cX6_clock 5 = .ok (.ifCond .eq 7, 3) := dk_153 0 7 (dk_at dksX6_clock_0 5 rfl rfl)
theorem dX6_clock_8 : decode cX6_clock 8 = .ok (.iconst 0, 1) := dk_3 (dk_at dksX6_clock_0 8 rfl rfl)
theorem dX6_clock_9 : decode cX6_clock 9 = .ok (.goto 12, 3) := dk_167 0 12 (dk_at dksX6_clock_0 9 rfl rfl)
theorem dX6_clock_12 : decode cX6_clock 12 = .ok (.aload_n 0, 1) := dk_42 (dk_at dksX6_clock_0 12 rfl rfl)
theorem dX6_clock_13 : decode cX6_clock 13 = .ok (.getfield 15, 3) := dk_180 0 15 (dk_at dksX6_clock_0 13 rfl rfl)
theorem dX6_clock_16 : decode cX6_clock 16 = .ok (.iload_n 1, 1) := dk_27 (dk_at dksX6_clock_0 16 rfl rfl)
theorem dX6_clock_17 : decode cX6_clock 17 = .ok (.aaload, 1) := dk_50 (dk_at dksX6_clock_0 17 rfl rfl)
theorem dX6_clock_18 : decode cX6_clock 18 = .ok (.getfield 81, 3) := dk_180 0 81 (dk_at dksX6_clock_0 18 rfl rfl)
theorem dX6_clock_21 : decode cX6_clock 21 = .ok (.ireturn, 1) := dk_172 (dk_at dksX6_clock_0 21 rfl rfl)
abbrev cX6_last : ByteArray := prog_19_method_21_code
def yX6_last : MethodName := ⟨RX6, "last", "(I)I"⟩
def dkwX6_last_0 : List UInt8 := [42, 27, 182, 0, 74, 153, 0, 7, 3, 167, 0, 12, 42, 180, 0, 15, 27, 50, 182, 0, 133, 172]
abbrev dktX6_last_0 : List UInt8 := dkwX6_last_0 ++ []
theorem dksX6_last_0 : cX6_last.data.toList.drop 0 = dktX6_last_0 := by decide +kernel
theorem dX6_last_0 : decode cX6_last 0 = .ok (.aload_n 0, 1) := dk_42 (dk_at dksX6_last_0 0 rfl rfl)
theorem dX6_last_1 : decode cX6_last 1 = .ok (.iload_n 1, 1) := dk_27 (dk_at dksX6_last_0 1 rfl rfl)
theorem dX6_last_2 : decode cX6_last 2 = .ok (.invokevirtual 74, 3) := dk_182 0 74 (dk_at dksX6_last_0 2 rfl rfl)
theorem dX6_last_5 : decode cX6_last 5 = .ok (.ifCond .eq 7, 3) := dk_153 0 7 (dk_at dksX6_last_0 5 rfl rfl)
theorem dX6_last_8 : decode cX6_last 8 = .ok (.iconst 0, 1) := dk_3 (dk_at dksX6_last_0 8 rfl rfl)
theorem dX6_last_9 : decode cX6_last 9 = .ok (.goto 12, 3) := dk_167 0 12 (dk_at dksX6_last_0 9 rfl rfl)
theorem dX6_last_12 : decode cX6_last 12 = .ok (.aload_n 0, 1) := dk_42 (dk_at dksX6_last_0 12 rfl rfl)
theorem dX6_last_13 : decode cX6_last 13 = .ok (.getfield 15, 3) := dk_180 0 15 (dk_at dksX6_last_0 13 rfl rfl)
theorem dX6_last_16 : decode cX6_last 16 = .ok (.iload_n 1, 1) := dk_27 (dk_at dksX6_last_0 16 rfl rfl)
theorem dX6_last_17 : decode cX6_last 17 = .ok (.aaload, 1) := dk_50 (dk_at dksX6_last_0 17 rfl rfl)
theorem dX6_last_18 : decode cX6_last 18 = .ok (.invokevirtual 133, 3) := dk_182 0 133 (dk_at dksX6_last_0 18 rfl rfl)
theorem dX6_last_21 : decode cX6_last 21 = .ok (.ireturn, 1) := dk_172 (dk_at dksX6_last_0 21 rfl rfl)
abbrev cX6_synced : ByteArray := prog_19_method_22_code
def yX6_synced : MethodName := ⟨RX6, "synced", "(I)I"⟩
def dkwX6_synced_0 : List UInt8 := [42, 27, 182, 0, 74, 153, 0, 7, 3, 167, 0, 12, 42, 180, 0, 15, 27, 50, 180, 0, 136, 172]
abbrev dktX6_synced_0 : List UInt8 := dkwX6_synced_0 ++ []
theorem dksX6_synced_0 : cX6_synced.data.toList.drop 0 = dktX6_synced_0 := by decide +kernel
theorem dX6_synced_0 : decode cX6_synced 0 = .ok (.aload_n 0, 1) := dk_42 (dk_at dksX6_synced_0 0 rfl rfl)
theorem dX6_synced_1 : decode cX6_synced 1 = .ok (.iload_n 1, 1) := dk_27 (dk_at dksX6_synced_0 1 rfl rfl)
theorem dX6_synced_2 : decode cX6_synced 2 = .ok (.invokevirtual 74, 3) := dk_182 0 74 (dk_at dksX6_synced_0 2 rfl rfl)
theorem dX6_synced_5 : decode cX6_synced 5 = .ok (.ifCond .eq 7, 3) := dk_153 0 7 (dk_at dksX6_synced_0 5 rfl rfl)
theorem dX6_synced_8 : decode cX6_synced 8 = .ok (.iconst 0, 1) := dk_3 (dk_at dksX6_synced_0 8 rfl rfl)
theorem dX6_synced_9 : decode cX6_synced 9 = .ok (.goto 12, 3) := dk_167 0 12 (dk_at dksX6_synced_0 9 rfl rfl)
theorem dX6_synced_12 : decode cX6_synced 12 = .ok (.aload_n 0, 1) := dk_42 (dk_at dksX6_synced_0 12 rfl rfl)
theorem dX6_synced_13 : decode cX6_synced 13 = .ok (.getfield 15, 3) := dk_180 0 15 (dk_at dksX6_synced_0 13 rfl rfl)
theorem dX6_synced_16 : decode cX6_synced 16 = .ok (.iload_n 1, 1) := dk_27 (dk_at dksX6_synced_0 16 rfl rfl)
theorem dX6_synced_17 : decode cX6_synced 17 = .ok (.aaload, 1) := dk_50 (dk_at dksX6_synced_0 17 rfl rfl)
theorem dX6_synced_18 : decode cX6_synced 18 = .ok (.getfield 136, 3) := dk_180 0 136 (dk_at dksX6_synced_0 18 rfl rfl)
theorem dX6_synced_21 : decode cX6_synced 21 = .ok (.ireturn, 1) := dk_172 (dk_at dksX6_synced_0 21 rfl rfl)
abbrev cX6_committed : ByteArray := prog_19_method_23_code
def yX6_committed : MethodName := ⟨RX6, "committed", "(I)I"⟩
def dkwX6_committed_0 : List UInt8 := [42, 27, 182, 0, 74, 153, 0, 7, 3, 167, 0, 12, 42, 180, 0, 15, 27, 50, 180, 0, 108, 172]
abbrev dktX6_committed_0 : List UInt8 := dkwX6_committed_0 ++ []
theorem dksX6_committed_0 : cX6_committed.data.toList.drop 0 = dktX6_committed_0 := by decide +kernel
theorem dX6_committed_0 : decode cX6_committed 0 = .ok (.aload_n 0, 1) := dk_42 (dk_at dksX6_committed_0 0 rfl rfl)
theorem dX6_committed_1 : decode cX6_committed 1 = .ok (.iload_n 1, 1) := dk_27 (dk_at dksX6_committed_0 1 rfl rfl)
theorem dX6_committed_2 : decode cX6_committed 2 = .ok (.invokevirtual 74, 3) := dk_182 0 74 (dk_at dksX6_committed_0 2 rfl rfl)
theorem dX6_committed_5 : decode cX6_committed 5 = .ok (.ifCond .eq 7, 3) := dk_153 0 7 (dk_at dksX6_committed_0 5 rfl rfl)
theorem dX6_committed_8 : decode cX6_committed 8 = .ok (.iconst 0, 1) := dk_3 (dk_at dksX6_committed_0 8 rfl rfl)
theorem dX6_committed_9 : decode cX6_committed 9 = .ok (.goto 12, 3) := dk_167 0 12 (dk_at dksX6_committed_0 9 rfl rfl)
theorem dX6_committed_12 : decode cX6_committed 12 = .ok (.aload_n 0, 1) := dk_42 (dk_at dksX6_committed_0 12 rfl rfl)
theorem dX6_committed_13 : decode cX6_committed 13 = .ok (.getfield 15, 3) := dk_180 0 15 (dk_at dksX6_committed_0 13 rfl rfl)
theorem dX6_committed_16 : decode cX6_committed 16 = .ok (.iload_n 1, 1) := dk_27 (dk_at dksX6_committed_0 16 rfl rfl)
theorem dX6_committed_17 : decode cX6_committed 17 = .ok (.aaload, 1) := dk_50 (dk_at dksX6_committed_0 17 rfl rfl)
theorem dX6_committed_18 : decode cX6_committed 18 = .ok (.getfield 108, 3) := dk_180 0 108 (dk_at dksX6_committed_0 18 rfl rfl)
theorem dX6_committed_21 : decode cX6_committed 21 = .ok (.ireturn, 1) := dk_172 (dk_at dksX6_committed_0 21 rfl rfl)
abbrev cX6_snapshot : ByteArray := prog_19_method_24_code
def yX6_snapshot : MethodName := ⟨RX6, "snapshot", "(I)I"⟩
def dkwX6_snapshot_1 : List UInt8 := [172]
abbrev dktX6_snapshot_1 : List UInt8 := dkwX6_snapshot_1 ++ []
def dkwX6_snapshot_0 : List UInt8 := [42, 27, 182, 0, 74, 153, 0, 7, 3, 167, 0, 15, 42, 180, 0, 15, 27, 50, 180, 0, 111, 180, 0, 115]
abbrev dktX6_snapshot_0 : List UInt8 := dkwX6_snapshot_0 ++ dktX6_snapshot_1
theorem dksX6_snapshot_0 : cX6_snapshot.data.toList.drop 0 = dktX6_snapshot_0 := by decide +kernel
theorem dksX6_snapshot_1 : cX6_snapshot.data.toList.drop 24 = dktX6_snapshot_1 := dk_seg dksX6_snapshot_0 24 rfl rfl
theorem dX6_snapshot_0 : decode cX6_snapshot 0 = .ok (.aload_n 0, 1) := dk_42 (dk_at dksX6_snapshot_0 0 rfl rfl)
theorem dX6_snapshot_1 : decode cX6_snapshot 1 = .ok (.iload_n 1, 1) := dk_27 (dk_at dksX6_snapshot_0 1 rfl rfl)
theorem dX6_snapshot_2 : decode cX6_snapshot 2 = .ok (.invokevirtual 74, 3) := dk_182 0 74 (dk_at dksX6_snapshot_0 2 rfl rfl)
theorem dX6_snapshot_5 : decode cX6_snapshot 5 = .ok (.ifCond .eq 7, 3) := dk_153 0 7 (dk_at dksX6_snapshot_0 5 rfl rfl)
theorem dX6_snapshot_8 : decode cX6_snapshot 8 = .ok (.iconst 0, 1) := dk_3 (dk_at dksX6_snapshot_0 8 rfl rfl)
theorem dX6_snapshot_9 : decode cX6_snapshot 9 = .ok (.goto 15, 3) := dk_167 0 15 (dk_at dksX6_snapshot_0 9 rfl rfl)
theorem dX6_snapshot_12 : decode cX6_snapshot 12 = .ok (.aload_n 0, 1) := dk_42 (dk_at dksX6_snapshot_0 12 rfl rfl)
theorem dX6_snapshot_13 : decode cX6_snapshot 13 = .ok (.getfield 15, 3) := dk_180 0 15 (dk_at dksX6_snapshot_0 13 rfl rfl)
theorem dX6_snapshot_16 : decode cX6_snapshot 16 = .ok (.iload_n 1, 1) := dk_27 (dk_at dksX6_snapshot_0 16 rfl rfl)
theorem dX6_snapshot_17 : decode cX6_snapshot 17 = .ok (.aaload, 1) := dk_50 (dk_at dksX6_snapshot_0 17 rfl rfl)
theorem dX6_snapshot_18 : decode cX6_snapshot 18 = .ok (.getfield 111, 3) := dk_180 0 111 (dk_at dksX6_snapshot_0 18 rfl rfl)
theorem dX6_snapshot_21 : decode cX6_snapshot 21 = .ok (.getfield 115, 3) := dk_180 0 115 (dk_at dksX6_snapshot_0 21 rfl rfl)
theorem dX6_snapshot_24 : decode cX6_snapshot 24 = .ok (.ireturn, 1) := dk_172 (dk_at dksX6_snapshot_1 0 rfl rfl)
abbrev cX6_members : ByteArray := prog_19_method_25_code
def yX6_members : MethodName := ⟨RX6, "members", "(I)I"⟩
def dkwX6_members_0 : List UInt8 := [42, 27, 182, 0, 74, 153, 0, 7, 3, 167, 0, 12, 42, 180, 0, 15, 27, 50, 182, 0, 139, 172]
abbrev dktX6_members_0 : List UInt8 := dkwX6_members_0 ++ []
theorem dksX6_members_0 : cX6_members.data.toList.drop 0 = dktX6_members_0 := by decide +kernel
theorem dX6_members_0 : decode cX6_members 0 = .ok (.aload_n 0, 1) := dk_42 (dk_at dksX6_members_0 0 rfl rfl)
theorem dX6_members_1 : decode cX6_members 1 = .ok (.iload_n 1, 1) := dk_27 (dk_at dksX6_members_0 1 rfl rfl)
theorem dX6_members_2 : decode cX6_members 2 = .ok (.invokevirtual 74, 3) := dk_182 0 74 (dk_at dksX6_members_0 2 rfl rfl)
theorem dX6_members_5 : decode cX6_members 5 = .ok (.ifCond .eq 7, 3) := dk_153 0 7 (dk_at dksX6_members_0 5 rfl rfl)
theorem dX6_members_8 : decode cX6_members 8 = .ok (.iconst 0, 1) := dk_3 (dk_at dksX6_members_0 8 rfl rfl)
theorem dX6_members_9 : decode cX6_members 9 = .ok (.goto 12, 3) := dk_167 0 12 (dk_at dksX6_members_0 9 rfl rfl)
theorem dX6_members_12 : decode cX6_members 12 = .ok (.aload_n 0, 1) := dk_42 (dk_at dksX6_members_0 12 rfl rfl)
theorem dX6_members_13 : decode cX6_members 13 = .ok (.getfield 15, 3) := dk_180 0 15 (dk_at dksX6_members_0 13 rfl rfl)
theorem dX6_members_16 : decode cX6_members 16 = .ok (.iload_n 1, 1) := dk_27 (dk_at dksX6_members_0 16 rfl rfl)
theorem dX6_members_17 : decode cX6_members 17 = .ok (.aaload, 1) := dk_50 (dk_at dksX6_members_0 17 rfl rfl)
theorem dX6_members_18 : decode cX6_members 18 = .ok (.invokevirtual 139, 3) := dk_182 0 139 (dk_at dksX6_members_0 18 rfl rfl)
theorem dX6_members_21 : decode cX6_members 21 = .ok (.ireturn, 1) := dk_172 (dk_at dksX6_members_0 21 rfl rfl)
abbrev cX6_entryTerm : ByteArray := prog_19_method_27_code
def yX6_entryTerm : MethodName := ⟨RX6, "entryTerm", "(II)I"⟩
def dkwX6_entryTerm_1 : List UInt8 := [180, 0, 153, 172]
abbrev dktX6_entryTerm_1 : List UInt8 := dkwX6_entryTerm_1 ++ []
def dkwX6_entryTerm_0 : List UInt8 := [42, 27, 28, 182, 0, 145, 153, 0, 7, 3, 167, 0, 16, 42, 180, 0, 15, 27, 50, 28, 182, 0, 149]
abbrev dktX6_entryTerm_0 : List UInt8 := dkwX6_entryTerm_0 ++ dktX6_entryTerm_1
theorem dksX6_entryTerm_0 : cX6_entryTerm.data.toList.drop 0 = dktX6_entryTerm_0 := by decide +kernel
theorem dksX6_entryTerm_1 : cX6_entryTerm.data.toList.drop 23 = dktX6_entryTerm_1 := dk_seg dksX6_entryTerm_0 23 rfl rfl
theorem dX6_entryTerm_0 : decode cX6_entryTerm 0 = .ok (.aload_n 0, 1) := dk_42 (dk_at dksX6_entryTerm_0 0 rfl rfl)
theorem dX6_entryTerm_1 : decode cX6_entryTerm 1 = .ok (.iload_n 1, 1) := dk_27 (dk_at dksX6_entryTerm_0 1 rfl rfl)
theorem dX6_entryTerm_2 : decode cX6_entryTerm 2 = .ok (.iload_n 2, 1) := dk_28 (dk_at dksX6_entryTerm_0 2 rfl rfl)
theorem dX6_entryTerm_3 : decode cX6_entryTerm 3 = .ok (.invokevirtual 145, 3) := dk_182 0 145 (dk_at dksX6_entryTerm_0 3 rfl rfl)
theorem dX6_entryTerm_6 : decode cX6_entryTerm 6 = .ok (.ifCond .eq 7, 3) := dk_153 0 7 (dk_at dksX6_entryTerm_0 6 rfl rfl)
theorem dX6_entryTerm_9 : decode cX6_entryTerm 9 = .ok (.iconst 0, 1) := dk_3 (dk_at dksX6_entryTerm_0 9 rfl rfl)
theorem dX6_entryTerm_10 : decode cX6_entryTerm 10 = .ok (.goto 16, 3) := dk_167 0 16 (dk_at dksX6_entryTerm_0 10 rfl rfl)
theorem dX6_entryTerm_13 : decode cX6_entryTerm 13 = .ok (.aload_n 0, 1) := dk_42 (dk_at dksX6_entryTerm_0 13 rfl rfl)
theorem dX6_entryTerm_14 : decode cX6_entryTerm 14 = .ok (.getfield 15, 3) := dk_180 0 15 (dk_at dksX6_entryTerm_0 14 rfl rfl)
theorem dX6_entryTerm_17 : decode cX6_entryTerm 17 = .ok (.iload_n 1, 1) := dk_27 (dk_at dksX6_entryTerm_0 17 rfl rfl)
theorem dX6_entryTerm_18 : decode cX6_entryTerm 18 = .ok (.aaload, 1) := dk_50 (dk_at dksX6_entryTerm_0 18 rfl rfl)
theorem dX6_entryTerm_19 : decode cX6_entryTerm 19 = .ok (.iload_n 2, 1) := dk_28 (dk_at dksX6_entryTerm_0 19 rfl rfl)
theorem dX6_entryTerm_20 : decode cX6_entryTerm 20 = .ok (.invokevirtual 149, 3) := dk_182 0 149 (dk_at dksX6_entryTerm_0 20 rfl rfl)
theorem dX6_entryTerm_23 : decode cX6_entryTerm 23 = .ok (.getfield 153, 3) := dk_180 0 153 (dk_at dksX6_entryTerm_1 0 rfl rfl)
theorem dX6_entryTerm_26 : decode cX6_entryTerm 26 = .ok (.ireturn, 1) := dk_172 (dk_at dksX6_entryTerm_1 3 rfl rfl)
abbrev cX6_failsEntry : ByteArray := prog_19_method_26_code
def yX6_failsEntry : MethodName := ⟨RX6, "failsEntry", "(II)Z"⟩
def dkwX6_failsEntry_1 : List UInt8 := [167, 0, 4, 5, 182, 0, 43, 153, 0, 7, 4, 167, 0, 4, 3, 172]
abbrev dktX6_failsEntry_1 : List UInt8 := dkwX6_failsEntry_1 ++ []
def dkwX6_failsEntry_0 : List UInt8 := [42, 27, 182, 0, 74, 154, 0, 28, 42, 42, 180, 0, 15, 27, 50, 28, 182, 0, 142, 153, 0, 7, 3]
abbrev dktX6_failsEntry_0 : List UInt8 := dkwX6_failsEntry_0 ++ dktX6_failsEntry_1
theorem dksX6_failsEntry_0 : cX6_failsEntry.data.toList.drop 0 = dktX6_failsEntry_0 := by decide +kernel
theorem dksX6_failsEntry_1 : cX6_failsEntry.data.toList.drop 23 = dktX6_failsEntry_1 := dk_seg dksX6_failsEntry_0 23 rfl rfl
theorem dX6_failsEntry_0 : decode cX6_failsEntry 0 = .ok (.aload_n 0, 1) := dk_42 (dk_at dksX6_failsEntry_0 0 rfl rfl)
theorem dX6_failsEntry_1 : decode cX6_failsEntry 1 = .ok (.iload_n 1, 1) := dk_27 (dk_at dksX6_failsEntry_0 1 rfl rfl)
theorem dX6_failsEntry_2 : decode cX6_failsEntry 2 = .ok (.invokevirtual 74, 3) := dk_182 0 74 (dk_at dksX6_failsEntry_0 2 rfl rfl)
theorem dX6_failsEntry_5 : decode cX6_failsEntry 5 = .ok (.ifCond .ne 28, 3) := dk_154 0 28 (dk_at dksX6_failsEntry_0 5 rfl rfl)
theorem dX6_failsEntry_8 : decode cX6_failsEntry 8 = .ok (.aload_n 0, 1) := dk_42 (dk_at dksX6_failsEntry_0 8 rfl rfl)
theorem dX6_failsEntry_9 : decode cX6_failsEntry 9 = .ok (.aload_n 0, 1) := dk_42 (dk_at dksX6_failsEntry_0 9 rfl rfl)
theorem dX6_failsEntry_10 : decode cX6_failsEntry 10 = .ok (.getfield 15, 3) := dk_180 0 15 (dk_at dksX6_failsEntry_0 10 rfl rfl)
theorem dX6_failsEntry_13 : decode cX6_failsEntry 13 = .ok (.iload_n 1, 1) := dk_27 (dk_at dksX6_failsEntry_0 13 rfl rfl)
theorem dX6_failsEntry_14 : decode cX6_failsEntry 14 = .ok (.aaload, 1) := dk_50 (dk_at dksX6_failsEntry_0 14 rfl rfl)
theorem dX6_failsEntry_15 : decode cX6_failsEntry 15 = .ok (.iload_n 2, 1) := dk_28 (dk_at dksX6_failsEntry_0 15 rfl rfl)
theorem dX6_failsEntry_16 : decode cX6_failsEntry 16 = .ok (.invokevirtual 142, 3) := dk_182 0 142 (dk_at dksX6_failsEntry_0 16 rfl rfl)
theorem dX6_failsEntry_19 : decode cX6_failsEntry 19 = .ok (.ifCond .eq 7, 3) := dk_153 0 7 (dk_at dksX6_failsEntry_0 19 rfl rfl)
theorem dX6_failsEntry_22 : decode cX6_failsEntry 22 = .ok (.iconst 0, 1) := dk_3 (dk_at dksX6_failsEntry_0 22 rfl rfl)
theorem dX6_failsEntry_23 : decode cX6_failsEntry 23 = .ok (.goto 4, 3) := dk_167 0 4 (dk_at dksX6_failsEntry_1 0 rfl rfl)
theorem dX6_failsEntry_26 : decode cX6_failsEntry 26 = .ok (.iconst 2, 1) := dk_5 (dk_at dksX6_failsEntry_1 3 rfl rfl)
theorem dX6_failsEntry_27 : decode cX6_failsEntry 27 = .ok (.invokevirtual 43, 3) := dk_182 0 43 (dk_at dksX6_failsEntry_1 4 rfl rfl)
theorem dX6_failsEntry_30 : decode cX6_failsEntry 30 = .ok (.ifCond .eq 7, 3) := dk_153 0 7 (dk_at dksX6_failsEntry_1 7 rfl rfl)
theorem dX6_failsEntry_33 : decode cX6_failsEntry 33 = .ok (.iconst 1, 1) := dk_4 (dk_at dksX6_failsEntry_1 10 rfl rfl)
theorem dX6_failsEntry_34 : decode cX6_failsEntry 34 = .ok (.goto 4, 3) := dk_167 0 4 (dk_at dksX6_failsEntry_1 11 rfl rfl)
theorem dX6_failsEntry_37 : decode cX6_failsEntry 37 = .ok (.iconst 0, 1) := dk_3 (dk_at dksX6_failsEntry_1 14 rfl rfl)
theorem dX6_failsEntry_38 : decode cX6_failsEntry 38 = .ok (.ireturn, 1) := dk_172 (dk_at dksX6_failsEntry_1 15 rfl rfl)
abbrev cX6_entryKind : ByteArray := prog_19_method_28_code
def yX6_entryKind : MethodName := ⟨RX6, "entryKind", "(II)C"⟩
def dkwX6_entryKind_1 : List UInt8 := [180, 0, 156, 172]
abbrev dktX6_entryKind_1 : List UInt8 := dkwX6_entryKind_1 ++ []
def dkwX6_entryKind_0 : List UInt8 := [42, 27, 28, 182, 0, 145, 153, 0, 7, 3, 167, 0, 16, 42, 180, 0, 15, 27, 50, 28, 182, 0, 149]
abbrev dktX6_entryKind_0 : List UInt8 := dkwX6_entryKind_0 ++ dktX6_entryKind_1
theorem dksX6_entryKind_0 : cX6_entryKind.data.toList.drop 0 = dktX6_entryKind_0 := by decide +kernel
theorem dksX6_entryKind_1 : cX6_entryKind.data.toList.drop 23 = dktX6_entryKind_1 := dk_seg dksX6_entryKind_0 23 rfl rfl
theorem dX6_entryKind_0 : decode cX6_entryKind 0 = .ok (.aload_n 0, 1) := dk_42 (dk_at dksX6_entryKind_0 0 rfl rfl)
theorem dX6_entryKind_1 : decode cX6_entryKind 1 = .ok (.iload_n 1, 1) := dk_27 (dk_at dksX6_entryKind_0 1 rfl rfl)
theorem dX6_entryKind_2 : decode cX6_entryKind 2 = .ok (.iload_n 2, 1) := dk_28 (dk_at dksX6_entryKind_0 2 rfl rfl)
theorem dX6_entryKind_3 : decode cX6_entryKind 3 = .ok (.invokevirtual 145, 3) := dk_182 0 145 (dk_at dksX6_entryKind_0 3 rfl rfl)
theorem dX6_entryKind_6 : decode cX6_entryKind 6 = .ok (.ifCond .eq 7, 3) := dk_153 0 7 (dk_at dksX6_entryKind_0 6 rfl rfl)
theorem dX6_entryKind_9 : decode cX6_entryKind 9 = .ok (.iconst 0, 1) := dk_3 (dk_at dksX6_entryKind_0 9 rfl rfl)
theorem dX6_entryKind_10 : decode cX6_entryKind 10 = .ok (.goto 16, 3) := dk_167 0 16 (dk_at dksX6_entryKind_0 10 rfl rfl)
theorem dX6_entryKind_13 : decode cX6_entryKind 13 = .ok (.aload_n 0, 1) := dk_42 (dk_at dksX6_entryKind_0 13 rfl rfl)
theorem dX6_entryKind_14 : decode cX6_entryKind 14 = .ok (.getfield 15, 3) := dk_180 0 15 (dk_at dksX6_entryKind_0 14 rfl rfl)
theorem dX6_entryKind_17 : decode cX6_entryKind 17 = .ok (.iload_n 1, 1) := dk_27 (dk_at dksX6_entryKind_0 17 rfl rfl)
theorem dX6_entryKind_18 : decode cX6_entryKind 18 = .ok (.aaload, 1) := dk_50 (dk_at dksX6_entryKind_0 18 rfl rfl)
theorem dX6_entryKind_19 : decode cX6_entryKind 19 = .ok (.iload_n 2, 1) := dk_28 (dk_at dksX6_entryKind_0 19 rfl rfl)
theorem dX6_entryKind_20 : decode cX6_entryKind 20 = .ok (.invokevirtual 149, 3) := dk_182 0 149 (dk_at dksX6_entryKind_0 20 rfl rfl)
theorem dX6_entryKind_23 : decode cX6_entryKind 23 = .ok (.getfield 156, 3) := dk_180 0 156 (dk_at dksX6_entryKind_1 0 rfl rfl)
theorem dX6_entryKind_26 : decode cX6_entryKind 26 = .ok (.ireturn, 1) := dk_172 (dk_at dksX6_entryKind_1 3 rfl rfl)
abbrev cX6_waiting : ByteArray := prog_19_method_29_code
def yX6_waiting : MethodName := ⟨RX6, "waiting", "()I"⟩
def dkwX6_waiting_0 : List UInt8 := [42, 3, 181, 0, 32, 42, 180, 0, 22, 182, 0, 47, 172]
abbrev dktX6_waiting_0 : List UInt8 := dkwX6_waiting_0 ++ []
theorem dksX6_waiting_0 : cX6_waiting.data.toList.drop 0 = dktX6_waiting_0 := by decide +kernel
theorem dX6_waiting_0 : decode cX6_waiting 0 = .ok (.aload_n 0, 1) := dk_42 (dk_at dksX6_waiting_0 0 rfl rfl)
theorem dX6_waiting_1 : decode cX6_waiting 1 = .ok (.iconst 0, 1) := dk_3 (dk_at dksX6_waiting_0 1 rfl rfl)
theorem dX6_waiting_2 : decode cX6_waiting 2 = .ok (.putfield 32, 3) := dk_181 0 32 (dk_at dksX6_waiting_0 2 rfl rfl)
theorem dX6_waiting_5 : decode cX6_waiting 5 = .ok (.aload_n 0, 1) := dk_42 (dk_at dksX6_waiting_0 5 rfl rfl)
theorem dX6_waiting_6 : decode cX6_waiting 6 = .ok (.getfield 22, 3) := dk_180 0 22 (dk_at dksX6_waiting_0 6 rfl rfl)
theorem dX6_waiting_9 : decode cX6_waiting 9 = .ok (.invokevirtual 47, 3) := dk_182 0 47 (dk_at dksX6_waiting_0 9 rfl rfl)
theorem dX6_waiting_12 : decode cX6_waiting 12 = .ok (.ireturn, 1) := dk_172 (dk_at dksX6_waiting_0 12 rfl rfl)
abbrev cX6_earliest : ByteArray := prog_19_method_30_code
def yX6_earliest : MethodName := ⟨RX6, "earliest", "()I"⟩
def dkwX6_earliest_1 : List UInt8 := [167, 0, 17, 42, 180, 0, 22, 3, 182, 0, 163, 192, 0, 55, 180, 0, 166, 172]
abbrev dktX6_earliest_1 : List UInt8 := dkwX6_earliest_1 ++ []
def dkwX6_earliest_0 : List UInt8 := [42, 42, 180, 0, 22, 182, 0, 159, 153, 0, 7, 4, 167, 0, 4, 3, 182, 0, 43, 153, 0, 7, 3]
abbrev dktX6_earliest_0 : List UInt8 := dkwX6_earliest_0 ++ dktX6_earliest_1
theorem dksX6_earliest_0 : cX6_earliest.data.toList.drop 0 = dktX6_earliest_0 := by decide +kernel
theorem dksX6_earliest_1 : cX6_earliest.data.toList.drop 23 = dktX6_earliest_1 := dk_seg dksX6_earliest_0 23 rfl rfl
theorem dX6_earliest_0 : decode cX6_earliest 0 = .ok (.aload_n 0, 1) := dk_42 (dk_at dksX6_earliest_0 0 rfl rfl)
theorem dX6_earliest_1 : decode cX6_earliest 1 = .ok (.aload_n 0, 1) := dk_42 (dk_at dksX6_earliest_0 1 rfl rfl)
theorem dX6_earliest_2 : decode cX6_earliest 2 = .ok (.getfield 22, 3) := dk_180 0 22 (dk_at dksX6_earliest_0 2 rfl rfl)
theorem dX6_earliest_5 : decode cX6_earliest 5 = .ok (.invokevirtual 159, 3) := dk_182 0 159 (dk_at dksX6_earliest_0 5 rfl rfl)
theorem dX6_earliest_8 : decode cX6_earliest 8 = .ok (.ifCond .eq 7, 3) := dk_153 0 7 (dk_at dksX6_earliest_0 8 rfl rfl)
theorem dX6_earliest_11 : decode cX6_earliest 11 = .ok (.iconst 1, 1) := dk_4 (dk_at dksX6_earliest_0 11 rfl rfl)
theorem dX6_earliest_12 : decode cX6_earliest 12 = .ok (.goto 4, 3) := dk_167 0 4 (dk_at dksX6_earliest_0 12 rfl rfl)
theorem dX6_earliest_15 : decode cX6_earliest 15 = .ok (.iconst 0, 1) := dk_3 (dk_at dksX6_earliest_0 15 rfl rfl)
theorem dX6_earliest_16 : decode cX6_earliest 16 = .ok (.invokevirtual 43, 3) := dk_182 0 43 (dk_at dksX6_earliest_0 16 rfl rfl)
theorem dX6_earliest_19 : decode cX6_earliest 19 = .ok (.ifCond .eq 7, 3) := dk_153 0 7 (dk_at dksX6_earliest_0 19 rfl rfl)
theorem dX6_earliest_22 : decode cX6_earliest 22 = .ok (.iconst 0, 1) := dk_3 (dk_at dksX6_earliest_0 22 rfl rfl)
theorem dX6_earliest_23 : decode cX6_earliest 23 = .ok (.goto 17, 3) := dk_167 0 17 (dk_at dksX6_earliest_1 0 rfl rfl)
theorem dX6_earliest_26 : decode cX6_earliest 26 = .ok (.aload_n 0, 1) := dk_42 (dk_at dksX6_earliest_1 3 rfl rfl)
theorem dX6_earliest_27 : decode cX6_earliest 27 = .ok (.getfield 22, 3) := dk_180 0 22 (dk_at dksX6_earliest_1 4 rfl rfl)
theorem dX6_earliest_30 : decode cX6_earliest 30 = .ok (.iconst 0, 1) := dk_3 (dk_at dksX6_earliest_1 7 rfl rfl)
theorem dX6_earliest_31 : decode cX6_earliest 31 = .ok (.invokevirtual 163, 3) := dk_182 0 163 (dk_at dksX6_earliest_1 8 rfl rfl)
theorem dX6_earliest_34 : decode cX6_earliest 34 = .ok (.checkcast 55, 3) := dk_192 0 55 (dk_at dksX6_earliest_1 11 rfl rfl)
theorem dX6_earliest_37 : decode cX6_earliest 37 = .ok (.getfield 166, 3) := dk_180 0 166 (dk_at dksX6_earliest_1 14 rfl rfl)
theorem dX6_earliest_40 : decode cX6_earliest 40 = .ok (.ireturn, 1) := dk_172 (dk_at dksX6_earliest_1 17 rfl rfl)
abbrev cX6_kindOf : ByteArray := prog_19_method_32_code
def yX6_kindOf : MethodName := ⟨RX6, "kindOf", "(I)C"⟩
def dkwX6_kindOf_0 : List UInt8 := [42, 27, 182, 0, 182, 77, 44, 199, 0, 7, 3, 167, 0, 7, 44, 180, 0, 186, 172]
abbrev dktX6_kindOf_0 : List UInt8 := dkwX6_kindOf_0 ++ []
theorem dksX6_kindOf_0 : cX6_kindOf.data.toList.drop 0 = dktX6_kindOf_0 := by decide +kernel
theorem dX6_kindOf_0 : decode cX6_kindOf 0 = .ok (.aload_n 0, 1) := dk_42 (dk_at dksX6_kindOf_0 0 rfl rfl)
theorem dX6_kindOf_1 : decode cX6_kindOf 1 = .ok (.iload_n 1, 1) := dk_27 (dk_at dksX6_kindOf_0 1 rfl rfl)
theorem dX6_kindOf_2 : decode cX6_kindOf 2 = .ok (.invokevirtual 182, 3) := dk_182 0 182 (dk_at dksX6_kindOf_0 2 rfl rfl)
theorem dX6_kindOf_5 : decode cX6_kindOf 5 = .ok (.astore_n 2, 1) := dk_77 (dk_at dksX6_kindOf_0 5 rfl rfl)
theorem dX6_kindOf_6 : decode cX6_kindOf 6 = .ok (.aload_n 2, 1) := dk_44 (dk_at dksX6_kindOf_0 6 rfl rfl)
theorem dX6_kindOf_7 : decode cX6_kindOf 7 = .ok (.ifnonnull 7, 3) := dk_199 0 7 (dk_at dksX6_kindOf_0 7 rfl rfl)
theorem dX6_kindOf_10 : decode cX6_kindOf 10 = .ok (.iconst 0, 1) := dk_3 (dk_at dksX6_kindOf_0 10 rfl rfl)
theorem dX6_kindOf_11 : decode cX6_kindOf 11 = .ok (.goto 7, 3) := dk_167 0 7 (dk_at dksX6_kindOf_0 11 rfl rfl)
theorem dX6_kindOf_14 : decode cX6_kindOf 14 = .ok (.aload_n 2, 1) := dk_44 (dk_at dksX6_kindOf_0 14 rfl rfl)
theorem dX6_kindOf_15 : decode cX6_kindOf 15 = .ok (.getfield 186, 3) := dk_180 0 186 (dk_at dksX6_kindOf_0 15 rfl rfl)
theorem dX6_kindOf_18 : decode cX6_kindOf 18 = .ok (.ireturn, 1) := dk_172 (dk_at dksX6_kindOf_0 18 rfl rfl)
abbrev cX6_message : ByteArray := prog_19_method_31_code
def yX6_message : MethodName := ⟨RX6, "message", "(I)LQuorumAlmanacModel$Message;"⟩
def dkwX6_message_3 : List UInt8 := [167, 0, 4, 44, 176]
abbrev dktX6_message_3 : List UInt8 := dkwX6_message_3 ++ []
def dkwX6_message_2 : List UInt8 := [44, 77, 167, 255, 220, 42, 44, 199, 0, 7, 4, 167, 0, 4, 3, 182, 0, 43, 153, 0, 7, 1]
abbrev dktX6_message_2 : List UInt8 := dkwX6_message_2 ++ dktX6_message_3
def dkwX6_message_1 : List UInt8 := [185, 0, 178, 1, 0, 192, 0, 55, 58, 4, 25, 4, 180, 0, 166, 27, 160, 0, 8, 25, 4, 167, 0, 4]
abbrev dktX6_message_1 : List UInt8 := dkwX6_message_1 ++ dktX6_message_2
def dkwX6_message_0 : List UInt8 := [1, 77, 42, 180, 0, 22, 182, 0, 169, 78, 45, 185, 0, 173, 1, 0, 153, 0, 33, 45]
abbrev dktX6_message_0 : List UInt8 := dkwX6_message_0 ++ dktX6_message_1
theorem dksX6_message_0 : cX6_message.data.toList.drop 0 = dktX6_message_0 := by decide +kernel
theorem dksX6_message_1 : cX6_message.data.toList.drop 20 = dktX6_message_1 := dk_seg dksX6_message_0 20 rfl rfl
theorem dksX6_message_2 : cX6_message.data.toList.drop 44 = dktX6_message_2 := dk_seg dksX6_message_1 24 rfl rfl
theorem dksX6_message_3 : cX6_message.data.toList.drop 66 = dktX6_message_3 := dk_seg dksX6_message_2 22 rfl rfl
theorem dX6_message_0 : decode cX6_message 0 = .ok (.aconst_null, 1) := dk_1 (dk_at dksX6_message_0 0 rfl rfl)
theorem dX6_message_1 : decode cX6_message 1 = .ok (.astore_n 2, 1) := dk_77 (dk_at dksX6_message_0 1 rfl rfl)
theorem dX6_message_2 : decode cX6_message 2 = .ok (.aload_n 0, 1) := dk_42 (dk_at dksX6_message_0 2 rfl rfl)
theorem dX6_message_3 : decode cX6_message 3 = .ok (.getfield 22, 3) := dk_180 0 22 (dk_at dksX6_message_0 3 rfl rfl)
theorem dX6_message_6 : decode cX6_message 6 = .ok (.invokevirtual 169, 3) := dk_182 0 169 (dk_at dksX6_message_0 6 rfl rfl)
theorem dX6_message_9 : decode cX6_message 9 = .ok (.astore_n 3, 1) := dk_78 (dk_at dksX6_message_0 9 rfl rfl)
theorem dX6_message_10 : decode cX6_message 10 = .ok (.aload_n 3, 1) := dk_45 (dk_at dksX6_message_0 10 rfl rfl)
theorem dX6_message_11 : decode cX6_message 11 = .ok (.invokeinterface 173 1, 5) := by decide +kernel
theorem dX6_message_16 : decode cX6_message 16 = .ok (.ifCond .eq 33, 3) := dk_153 0 33 (dk_at dksX6_message_0 16 rfl rfl)
theorem dX6_message_19 : decode cX6_message 19 = .ok (.aload_n 3, 1) := dk_45 (dk_at dksX6_message_0 19 rfl rfl)
theorem dX6_message_20 : decode cX6_message 20 = .ok (.invokeinterface 178 1, 5) := by decide +kernel
theorem dX6_message_25 : decode cX6_message 25 = .ok (.checkcast 55, 3) := dk_192 0 55 (dk_at dksX6_message_1 5 rfl rfl)
theorem dX6_message_28 : decode cX6_message 28 = .ok (.astore 4, 2) := dk_58 4 (dk_at dksX6_message_1 8 rfl rfl)
theorem dX6_message_30 : decode cX6_message 30 = .ok (.aload 4, 2) := dk_25 4 (dk_at dksX6_message_1 10 rfl rfl)
theorem dX6_message_32 : decode cX6_message 32 = .ok (.getfield 166, 3) := dk_180 0 166 (dk_at dksX6_message_1 12 rfl rfl)
theorem dX6_message_35 : decode cX6_message 35 = .ok (.iload_n 1, 1) := dk_27 (dk_at dksX6_message_1 15 rfl rfl)
theorem dX6_message_36 : decode cX6_message 36 = .ok (.if_icmp .ne 8, 3) := dk_160 0 8 (dk_at dksX6_message_1 16 rfl rfl)
theorem dX6_message_39 : decode cX6_message 39 = .ok (.aload 4, 2) := dk_25 4 (dk_at dksX6_message_1 19 rfl rfl)
theorem dX6_message_41 : decode cX6_message 41 = .ok (.goto 4, 3) := dk_167 0 4 (dk_at dksX6_message_1 21 rfl rfl)
theorem dX6_message_44 : decode cX6_message 44 = .ok (.aload_n 2, 1) := dk_44 (dk_at dksX6_message_2 0 rfl rfl)
theorem dX6_message_45 : decode cX6_message 45 = .ok (.astore_n 2, 1) := dk_77 (dk_at dksX6_message_2 1 rfl rfl)
theorem dX6_message_46 : decode cX6_message 46 = .ok (.goto (-36), 3) := dk_167 255 220 (dk_at dksX6_message_2 2 rfl rfl)
theorem dX6_message_49 : decode cX6_message 49 = .ok (.aload_n 0, 1) := dk_42 (dk_at dksX6_message_2 5 rfl rfl)
theorem dX6_message_50 : decode cX6_message 50 = .ok (.aload_n 2, 1) := dk_44 (dk_at dksX6_message_2 6 rfl rfl)
theorem dX6_message_51 : decode cX6_message 51 = .ok (.ifnonnull 7, 3) := dk_199 0 7 (dk_at dksX6_message_2 7 rfl rfl)
theorem dX6_message_54 : decode cX6_message 54 = .ok (.iconst 1, 1) := dk_4 (dk_at dksX6_message_2 10 rfl rfl)
theorem dX6_message_55 : decode cX6_message 55 = .ok (.goto 4, 3) := dk_167 0 4 (dk_at dksX6_message_2 11 rfl rfl)
theorem dX6_message_58 : decode cX6_message 58 = .ok (.iconst 0, 1) := dk_3 (dk_at dksX6_message_2 14 rfl rfl)
theorem dX6_message_59 : decode cX6_message 59 = .ok (.invokevirtual 43, 3) := dk_182 0 43 (dk_at dksX6_message_2 15 rfl rfl)
theorem dX6_message_62 : decode cX6_message 62 = .ok (.ifCond .eq 7, 3) := dk_153 0 7 (dk_at dksX6_message_2 18 rfl rfl)
theorem dX6_message_65 : decode cX6_message 65 = .ok (.aconst_null, 1) := dk_1 (dk_at dksX6_message_2 21 rfl rfl)
theorem dX6_message_66 : decode cX6_message 66 = .ok (.goto 4, 3) := dk_167 0 4 (dk_at dksX6_message_3 0 rfl rfl)
theorem dX6_message_69 : decode cX6_message 69 = .ok (.aload_n 2, 1) := dk_44 (dk_at dksX6_message_3 3 rfl rfl)
theorem dX6_message_70 : decode cX6_message 70 = .ok (.areturn, 1) := dk_176 (dk_at dksX6_message_3 4 rfl rfl)
abbrev cX6_between : ByteArray := prog_19_method_33_code
def yX6_between : MethodName := ⟨RX6, "between", "(I)I"⟩
def dkwX6_between_1 : List UInt8 := [180, 0, 190, 96, 172]
abbrev dktX6_between_1 : List UInt8 := dkwX6_between_1 ++ []
def dkwX6_between_0 : List UInt8 := [42, 27, 182, 0, 182, 77, 44, 199, 0, 7, 3, 167, 0, 15, 16, 10, 44, 180, 0, 187, 104, 44]
abbrev dktX6_between_0 : List UInt8 := dkwX6_between_0 ++ dktX6_between_1
theorem dksX6_between_0 : cX6_between.data.toList.drop 0 = dktX6_between_0 := by decide +kernel
theorem dksX6_between_1 : cX6_between.data.toList.drop 22 = dktX6_between_1 := dk_seg dksX6_between_0 22 rfl rfl
theorem dX6_between_0 : decode cX6_between 0 = .ok (.aload_n 0, 1) := dk_42 (dk_at dksX6_between_0 0 rfl rfl)
theorem dX6_between_1 : decode cX6_between 1 = .ok (.iload_n 1, 1) := dk_27 (dk_at dksX6_between_0 1 rfl rfl)
theorem dX6_between_2 : decode cX6_between 2 = .ok (.invokevirtual 182, 3) := dk_182 0 182 (dk_at dksX6_between_0 2 rfl rfl)
theorem dX6_between_5 : decode cX6_between 5 = .ok (.astore_n 2, 1) := dk_77 (dk_at dksX6_between_0 5 rfl rfl)
theorem dX6_between_6 : decode cX6_between 6 = .ok (.aload_n 2, 1) := dk_44 (dk_at dksX6_between_0 6 rfl rfl)
theorem dX6_between_7 : decode cX6_between 7 = .ok (.ifnonnull 7, 3) := dk_199 0 7 (dk_at dksX6_between_0 7 rfl rfl)
theorem dX6_between_10 : decode cX6_between 10 = .ok (.iconst 0, 1) := dk_3 (dk_at dksX6_between_0 10 rfl rfl)
theorem dX6_between_11 : decode cX6_between 11 = .ok (.goto 15, 3) := dk_167 0 15 (dk_at dksX6_between_0 11 rfl rfl)
theorem dX6_between_14 : decode cX6_between 14 = .ok (.bipush 10, 2) := dk_16 10 (dk_at dksX6_between_0 14 rfl rfl)
theorem dX6_between_16 : decode cX6_between 16 = .ok (.aload_n 2, 1) := dk_44 (dk_at dksX6_between_0 16 rfl rfl)
theorem dX6_between_17 : decode cX6_between 17 = .ok (.getfield 187, 3) := dk_180 0 187 (dk_at dksX6_between_0 17 rfl rfl)
theorem dX6_between_20 : decode cX6_between 20 = .ok (.imul, 1) := dk_104 (dk_at dksX6_between_0 20 rfl rfl)
theorem dX6_between_21 : decode cX6_between 21 = .ok (.aload_n 2, 1) := dk_44 (dk_at dksX6_between_0 21 rfl rfl)
theorem dX6_between_22 : decode cX6_between 22 = .ok (.getfield 190, 3) := dk_180 0 190 (dk_at dksX6_between_1 0 rfl rfl)
theorem dX6_between_25 : decode cX6_between 25 = .ok (.iadd, 1) := dk_96 (dk_at dksX6_between_1 3 rfl rfl)
theorem dX6_between_26 : decode cX6_between 26 = .ok (.ireturn, 1) := dk_172 (dk_at dksX6_between_1 4 rfl rfl)
abbrev cX6_deliver : ByteArray := prog_19_method_34_code
def yX6_deliver : MethodName := ⟨RX6, "deliver", "(I)I"⟩
def dkwX6_deliver_3 : List UInt8 := [180, 0, 67, 172]
abbrev dktX6_deliver_3 : List UInt8 := dkwX6_deliver_3 ++ []
def dkwX6_deliver_2 : List UInt8 := [181, 0, 195, 42, 3, 181, 0, 67, 42, 180, 0, 15, 44, 180, 0, 190, 50, 44, 182, 0, 199, 42]
abbrev dktX6_deliver_2 : List UInt8 := dkwX6_deliver_2 ++ dktX6_deliver_3
def dkwX6_deliver_1 : List UInt8 := [180, 0, 15, 44, 180, 0, 190, 50, 180, 0, 77, 154, 0, 5, 3, 172, 42, 89, 180, 0, 195, 10, 97]
abbrev dktX6_deliver_1 : List UInt8 := dkwX6_deliver_1 ++ dktX6_deliver_2
def dkwX6_deliver_0 : List UInt8 := [42, 27, 182, 0, 182, 77, 44, 199, 0, 5, 3, 172, 42, 180, 0, 22, 44, 182, 0, 193, 62, 42]
abbrev dktX6_deliver_0 : List UInt8 := dkwX6_deliver_0 ++ dktX6_deliver_1
theorem dksX6_deliver_0 : cX6_deliver.data.toList.drop 0 = dktX6_deliver_0 := by decide +kernel
theorem dksX6_deliver_1 : cX6_deliver.data.toList.drop 22 = dktX6_deliver_1 := dk_seg dksX6_deliver_0 22 rfl rfl
theorem dksX6_deliver_2 : cX6_deliver.data.toList.drop 45 = dktX6_deliver_2 := dk_seg dksX6_deliver_1 23 rfl rfl
theorem dksX6_deliver_3 : cX6_deliver.data.toList.drop 67 = dktX6_deliver_3 := dk_seg dksX6_deliver_2 22 rfl rfl
theorem dX6_deliver_0 : decode cX6_deliver 0 = .ok (.aload_n 0, 1) := dk_42 (dk_at dksX6_deliver_0 0 rfl rfl)
theorem dX6_deliver_1 : decode cX6_deliver 1 = .ok (.iload_n 1, 1) := dk_27 (dk_at dksX6_deliver_0 1 rfl rfl)
theorem dX6_deliver_2 : decode cX6_deliver 2 = .ok (.invokevirtual 182, 3) := dk_182 0 182 (dk_at dksX6_deliver_0 2 rfl rfl)
theorem dX6_deliver_5 : decode cX6_deliver 5 = .ok (.astore_n 2, 1) := dk_77 (dk_at dksX6_deliver_0 5 rfl rfl)
theorem dX6_deliver_6 : decode cX6_deliver 6 = .ok (.aload_n 2, 1) := dk_44 (dk_at dksX6_deliver_0 6 rfl rfl)
theorem dX6_deliver_7 : decode cX6_deliver 7 = .ok (.ifnonnull 5, 3) := dk_199 0 5 (dk_at dksX6_deliver_0 7 rfl rfl)
theorem dX6_deliver_10 : decode cX6_deliver 10 = .ok (.iconst 0, 1) := dk_3 (dk_at dksX6_deliver_0 10 rfl rfl)
theorem dX6_deliver_11 : decode cX6_deliver 11 = .ok (.ireturn, 1) := dk_172 (dk_at dksX6_deliver_0 11 rfl rfl)
theorem dX6_deliver_12 : decode cX6_deliver 12 = .ok (.aload_n 0, 1) := dk_42 (dk_at dksX6_deliver_0 12 rfl rfl)
theorem dX6_deliver_13 : decode cX6_deliver 13 = .ok (.getfield 22, 3) := dk_180 0 22 (dk_at dksX6_deliver_0 13 rfl rfl)
theorem dX6_deliver_16 : decode cX6_deliver 16 = .ok (.aload_n 2, 1) := dk_44 (dk_at dksX6_deliver_0 16 rfl rfl)
theorem dX6_deliver_17 : decode cX6_deliver 17 = .ok (.invokevirtual 193, 3) := dk_182 0 193 (dk_at dksX6_deliver_0 17 rfl rfl)
theorem dX6_deliver_20 : decode cX6_deliver 20 = .ok (.istore_n 3, 1) := dk_62 (dk_at dksX6_deliver_0 20 rfl rfl)
theorem dX6_deliver_21 : decode cX6_deliver 21 = .ok (.aload_n 0, 1) := dk_42 (dk_at dksX6_deliver_0 21 rfl rfl)
theorem dX6_deliver_22 : decode cX6_deliver 22 = .ok (.getfield 15, 3) := dk_180 0 15 (dk_at dksX6_deliver_1 0 rfl rfl)
theorem dX6_deliver_25 : decode cX6_deliver 25 = .ok (.aload_n 2, 1) := dk_44 (dk_at dksX6_deliver_1 3 rfl rfl)
theorem dX6_deliver_26 : decode cX6_deliver 26 = .ok (.getfield 190, 3) := dk_180 0 190 (dk_at dksX6_deliver_1 4 rfl rfl)
theorem dX6_deliver_29 : decode cX6_deliver 29 = .ok (.aaload, 1) := dk_50 (dk_at dksX6_deliver_1 7 rfl rfl)
theorem dX6_deliver_30 : decode cX6_deliver 30 = .ok (.getfield 77, 3) := dk_180 0 77 (dk_at dksX6_deliver_1 8 rfl rfl)
theorem dX6_deliver_33 : decode cX6_deliver 33 = .ok (.ifCond .ne 5, 3) := dk_154 0 5 (dk_at dksX6_deliver_1 11 rfl rfl)
theorem dX6_deliver_36 : decode cX6_deliver 36 = .ok (.iconst 0, 1) := dk_3 (dk_at dksX6_deliver_1 14 rfl rfl)
theorem dX6_deliver_37 : decode cX6_deliver 37 = .ok (.ireturn, 1) := dk_172 (dk_at dksX6_deliver_1 15 rfl rfl)
theorem dX6_deliver_38 : decode cX6_deliver 38 = .ok (.aload_n 0, 1) := dk_42 (dk_at dksX6_deliver_1 16 rfl rfl)
theorem dX6_deliver_39 : decode cX6_deliver 39 = .ok (.dup, 1) := dk_89 (dk_at dksX6_deliver_1 17 rfl rfl)
theorem dX6_deliver_40 : decode cX6_deliver 40 = .ok (.getfield 195, 3) := dk_180 0 195 (dk_at dksX6_deliver_1 18 rfl rfl)
theorem dX6_deliver_43 : decode cX6_deliver 43 = .ok (.lconst 1, 1) := dk_10 (dk_at dksX6_deliver_1 21 rfl rfl)
theorem dX6_deliver_44 : decode cX6_deliver 44 = .ok (.ladd, 1) := dk_97 (dk_at dksX6_deliver_1 22 rfl rfl)
theorem dX6_deliver_45 : decode cX6_deliver 45 = .ok (.putfield 195, 3) := dk_181 0 195 (dk_at dksX6_deliver_2 0 rfl rfl)
theorem dX6_deliver_48 : decode cX6_deliver 48 = .ok (.aload_n 0, 1) := dk_42 (dk_at dksX6_deliver_2 3 rfl rfl)
theorem dX6_deliver_49 : decode cX6_deliver 49 = .ok (.iconst 0, 1) := dk_3 (dk_at dksX6_deliver_2 4 rfl rfl)
theorem dX6_deliver_50 : decode cX6_deliver 50 = .ok (.putfield 67, 3) := dk_181 0 67 (dk_at dksX6_deliver_2 5 rfl rfl)
theorem dX6_deliver_53 : decode cX6_deliver 53 = .ok (.aload_n 0, 1) := dk_42 (dk_at dksX6_deliver_2 8 rfl rfl)
theorem dX6_deliver_54 : decode cX6_deliver 54 = .ok (.getfield 15, 3) := dk_180 0 15 (dk_at dksX6_deliver_2 9 rfl rfl)
theorem dX6_deliver_57 : decode cX6_deliver 57 = .ok (.aload_n 2, 1) := dk_44 (dk_at dksX6_deliver_2 12 rfl rfl)
theorem dX6_deliver_58 : decode cX6_deliver 58 = .ok (.getfield 190, 3) := dk_180 0 190 (dk_at dksX6_deliver_2 13 rfl rfl)
theorem dX6_deliver_61 : decode cX6_deliver 61 = .ok (.aaload, 1) := dk_50 (dk_at dksX6_deliver_2 16 rfl rfl)
theorem dX6_deliver_62 : decode cX6_deliver 62 = .ok (.aload_n 2, 1) := dk_44 (dk_at dksX6_deliver_2 17 rfl rfl)
theorem dX6_deliver_63 : decode cX6_deliver 63 = .ok (.invokevirtual 199, 3) := dk_182 0 199 (dk_at dksX6_deliver_2 18 rfl rfl)
theorem dX6_deliver_66 : decode cX6_deliver 66 = .ok (.aload_n 0, 1) := dk_42 (dk_at dksX6_deliver_2 21 rfl rfl)
theorem dX6_deliver_67 : decode cX6_deliver 67 = .ok (.getfield 67, 3) := dk_180 0 67 (dk_at dksX6_deliver_3 0 rfl rfl)
theorem dX6_deliver_70 : decode cX6_deliver 70 = .ok (.ireturn, 1) := dk_172 (dk_at dksX6_deliver_3 3 rfl rfl)
abbrev cX6_lose : ByteArray := prog_19_method_35_code
def yX6_lose : MethodName := ⟨RX6, "lose", "(I)I"⟩
def dkwX6_lose_1 : List UInt8 := [167, 0, 4, 3, 62, 29, 153, 0, 13, 42, 180, 0, 22, 182, 0, 47, 167, 0, 4, 3, 172]
abbrev dktX6_lose_1 : List UInt8 := dkwX6_lose_1 ++ []
def dkwX6_lose_0 : List UInt8 := [42, 27, 182, 0, 182, 77, 44, 198, 0, 18, 42, 180, 0, 22, 44, 182, 0, 193, 153, 0, 7, 4]
abbrev dktX6_lose_0 : List UInt8 := dkwX6_lose_0 ++ dktX6_lose_1
theorem dksX6_lose_0 : cX6_lose.data.toList.drop 0 = dktX6_lose_0 := by decide +kernel
theorem dksX6_lose_1 : cX6_lose.data.toList.drop 22 = dktX6_lose_1 := dk_seg dksX6_lose_0 22 rfl rfl
theorem dX6_lose_0 : decode cX6_lose 0 = .ok (.aload_n 0, 1) := dk_42 (dk_at dksX6_lose_0 0 rfl rfl)
theorem dX6_lose_1 : decode cX6_lose 1 = .ok (.iload_n 1, 1) := dk_27 (dk_at dksX6_lose_0 1 rfl rfl)
theorem dX6_lose_2 : decode cX6_lose 2 = .ok (.invokevirtual 182, 3) := dk_182 0 182 (dk_at dksX6_lose_0 2 rfl rfl)
theorem dX6_lose_5 : decode cX6_lose 5 = .ok (.astore_n 2, 1) := dk_77 (dk_at dksX6_lose_0 5 rfl rfl)
theorem dX6_lose_6 : decode cX6_lose 6 = .ok (.aload_n 2, 1) := dk_44 (dk_at dksX6_lose_0 6 rfl rfl)
theorem dX6_lose_7 : decode cX6_lose 7 = .ok (.ifnull 18, 3) := dk_198 0 18 (dk_at dksX6_lose_0 7 rfl rfl)
theorem dX6_lose_10 : decode cX6_lose 10 = .ok (.aload_n 0, 1) := dk_42 (dk_at dksX6_lose_0 10 rfl rfl)
theorem dX6_lose_11 : decode cX6_lose 11 = .ok (.getfield 22, 3) := dk_180 0 22 (dk_at dksX6_lose_0 11 rfl rfl)
theorem dX6_lose_14 : decode cX6_lose 14 = .ok (.aload_n 2, 1) := dk_44 (dk_at dksX6_lose_0 14 rfl rfl)
theorem dX6_lose_15 : decode cX6_lose 15 = .ok (.invokevirtual 193, 3) := dk_182 0 193 (dk_at dksX6_lose_0 15 rfl rfl)
theorem dX6_lose_18 : decode cX6_lose 18 = .ok (.ifCond .eq 7, 3) := dk_153 0 7 (dk_at dksX6_lose_0 18 rfl rfl)
theorem dX6_lose_21 : decode cX6_lose 21 = .ok (.iconst 1, 1) := dk_4 (dk_at dksX6_lose_0 21 rfl rfl)
theorem dX6_lose_22 : decode cX6_lose 22 = .ok (.goto 4, 3) := dk_167 0 4 (dk_at dksX6_lose_1 0 rfl rfl)
theorem dX6_lose_25 : decode cX6_lose 25 = .ok (.iconst 0, 1) := dk_3 (dk_at dksX6_lose_1 3 rfl rfl)
theorem dX6_lose_26 : decode cX6_lose 26 = .ok (.istore_n 3, 1) := dk_62 (dk_at dksX6_lose_1 4 rfl rfl)
theorem dX6_lose_27 : decode cX6_lose 27 = .ok (.iload_n 3, 1) := dk_29 (dk_at dksX6_lose_1 5 rfl rfl)
theorem dX6_lose_28 : decode cX6_lose 28 = .ok (.ifCond .eq 13, 3) := dk_153 0 13 (dk_at dksX6_lose_1 6 rfl rfl)
theorem dX6_lose_31 : decode cX6_lose 31 = .ok (.aload_n 0, 1) := dk_42 (dk_at dksX6_lose_1 9 rfl rfl)
theorem dX6_lose_32 : decode cX6_lose 32 = .ok (.getfield 22, 3) := dk_180 0 22 (dk_at dksX6_lose_1 10 rfl rfl)
theorem dX6_lose_35 : decode cX6_lose 35 = .ok (.invokevirtual 47, 3) := dk_182 0 47 (dk_at dksX6_lose_1 13 rfl rfl)
theorem dX6_lose_38 : decode cX6_lose 38 = .ok (.goto 4, 3) := dk_167 0 4 (dk_at dksX6_lose_1 16 rfl rfl)
theorem dX6_lose_41 : decode cX6_lose 41 = .ok (.iconst 0, 1) := dk_3 (dk_at dksX6_lose_1 19 rfl rfl)
theorem dX6_lose_42 : decode cX6_lose 42 = .ok (.ireturn, 1) := dk_172 (dk_at dksX6_lose_1 20 rfl rfl)
abbrev cX6_copy : ByteArray := prog_19_method_36_code
def yX6_copy : MethodName := ⟨RX6, "copy", "(I)I"⟩
def dkwX6_copy_1 : List UInt8 := [182, 0, 63, 45, 180, 0, 166, 172]
abbrev dktX6_copy_1 : List UInt8 := dkwX6_copy_1 ++ []
def dkwX6_copy_0 : List UInt8 := [42, 27, 182, 0, 182, 77, 44, 199, 0, 5, 3, 172, 44, 42, 180, 0, 57, 182, 0, 202, 78, 42, 45]
abbrev dktX6_copy_0 : List UInt8 := dkwX6_copy_0 ++ dktX6_copy_1
theorem dksX6_copy_0 : cX6_copy.data.toList.drop 0 = dktX6_copy_0 := by decide +kernel
theorem dksX6_copy_1 : cX6_copy.data.toList.drop 23 = dktX6_copy_1 := dk_seg dksX6_copy_0 23 rfl rfl
theorem dX6_copy_0 : decode cX6_copy 0 = .ok (.aload_n 0, 1) := dk_42 (dk_at dksX6_copy_0 0 rfl rfl)
theorem dX6_copy_1 : decode cX6_copy 1 = .ok (.iload_n 1, 1) := dk_27 (dk_at dksX6_copy_0 1 rfl rfl)
theorem dX6_copy_2 : decode cX6_copy 2 = .ok (.invokevirtual 182, 3) := dk_182 0 182 (dk_at dksX6_copy_0 2 rfl rfl)
theorem dX6_copy_5 : decode cX6_copy 5 = .ok (.astore_n 2, 1) := dk_77 (dk_at dksX6_copy_0 5 rfl rfl)
theorem dX6_copy_6 : decode cX6_copy 6 = .ok (.aload_n 2, 1) := dk_44 (dk_at dksX6_copy_0 6 rfl rfl)
theorem dX6_copy_7 : decode cX6_copy 7 = .ok (.ifnonnull 5, 3) := dk_199 0 5 (dk_at dksX6_copy_0 7 rfl rfl)
theorem dX6_copy_10 : decode cX6_copy 10 = .ok (.iconst 0, 1) := dk_3 (dk_at dksX6_copy_0 10 rfl rfl)
theorem dX6_copy_11 : decode cX6_copy 11 = .ok (.ireturn, 1) := dk_172 (dk_at dksX6_copy_0 11 rfl rfl)
theorem dX6_copy_12 : decode cX6_copy 12 = .ok (.aload_n 2, 1) := dk_44 (dk_at dksX6_copy_0 12 rfl rfl)
theorem dX6_copy_13 : decode cX6_copy 13 = .ok (.aload_n 0, 1) := dk_42 (dk_at dksX6_copy_0 13 rfl rfl)
theorem dX6_copy_14 : decode cX6_copy 14 = .ok (.getfield 57, 3) := dk_180 0 57 (dk_at dksX6_copy_0 14 rfl rfl)
theorem dX6_copy_17 : decode cX6_copy 17 = .ok (.invokevirtual 202, 3) := dk_182 0 202 (dk_at dksX6_copy_0 17 rfl rfl)
theorem dX6_copy_20 : decode cX6_copy 20 = .ok (.astore_n 3, 1) := dk_78 (dk_at dksX6_copy_0 20 rfl rfl)
theorem dX6_copy_21 : decode cX6_copy 21 = .ok (.aload_n 0, 1) := dk_42 (dk_at dksX6_copy_0 21 rfl rfl)
theorem dX6_copy_22 : decode cX6_copy 22 = .ok (.aload_n 3, 1) := dk_45 (dk_at dksX6_copy_0 22 rfl rfl)
theorem dX6_copy_23 : decode cX6_copy 23 = .ok (.invokevirtual 63, 3) := dk_182 0 63 (dk_at dksX6_copy_1 0 rfl rfl)
theorem dX6_copy_26 : decode cX6_copy 26 = .ok (.aload_n 3, 1) := dk_45 (dk_at dksX6_copy_1 3 rfl rfl)
theorem dX6_copy_27 : decode cX6_copy 27 = .ok (.getfield 166, 3) := dk_180 0 166 (dk_at dksX6_copy_1 4 rfl rfl)
theorem dX6_copy_30 : decode cX6_copy 30 = .ok (.ireturn, 1) := dk_172 (dk_at dksX6_copy_1 7 rfl rfl)
abbrev cX6_write : ByteArray := prog_19_method_39_code
def yX6_write : MethodName := ⟨RX6, "write", "(III)I"⟩
def dkwX6_write_2 : List UInt8 := [28, 29, 182, 0, 216, 172]
abbrev dktX6_write_2 : List UInt8 := dkwX6_write_2 ++ []
def dkwX6_write_1 : List UInt8 := [153, 0, 7, 4, 167, 0, 4, 3, 16, 80, 182, 0, 212, 153, 0, 7, 3, 167, 0, 12, 42, 27, 16, 119]
abbrev dktX6_write_1 : List UInt8 := dkwX6_write_1 ++ dktX6_write_2
def dkwX6_write_0 : List UInt8 := [42, 27, 28, 3, 16, 19, 184, 0, 39, 153, 0, 20, 29, 17, 252, 25, 17, 3, 231, 184, 0, 39]
abbrev dktX6_write_0 : List UInt8 := dkwX6_write_0 ++ dktX6_write_1
theorem dksX6_write_0 : cX6_write.data.toList.drop 0 = dktX6_write_0 := by decide +kernel
theorem dksX6_write_1 : cX6_write.data.toList.drop 22 = dktX6_write_1 := dk_seg dksX6_write_0 22 rfl rfl
theorem dksX6_write_2 : cX6_write.data.toList.drop 46 = dktX6_write_2 := dk_seg dksX6_write_1 24 rfl rfl
theorem dX6_write_0 : decode cX6_write 0 = .ok (.aload_n 0, 1) := dk_42 (dk_at dksX6_write_0 0 rfl rfl)
theorem dX6_write_1 : decode cX6_write 1 = .ok (.iload_n 1, 1) := dk_27 (dk_at dksX6_write_0 1 rfl rfl)
theorem dX6_write_2 : decode cX6_write 2 = .ok (.iload_n 2, 1) := dk_28 (dk_at dksX6_write_0 2 rfl rfl)
theorem dX6_write_3 : decode cX6_write 3 = .ok (.iconst 0, 1) := dk_3 (dk_at dksX6_write_0 3 rfl rfl)
theorem dX6_write_4 : decode cX6_write 4 = .ok (.bipush 19, 2) := dk_16 19 (dk_at dksX6_write_0 4 rfl rfl)
theorem dX6_write_6 : decode cX6_write 6 = .ok (.invokestatic 39, 3) := dk_184 0 39 (dk_at dksX6_write_0 6 rfl rfl)
theorem dX6_write_9 : decode cX6_write 9 = .ok (.ifCond .eq 20, 3) := dk_153 0 20 (dk_at dksX6_write_0 9 rfl rfl)
theorem dX6_write_12 : decode cX6_write 12 = .ok (.iload_n 3, 1) := dk_29 (dk_at dksX6_write_0 12 rfl rfl)
theorem dX6_write_13 : decode cX6_write 13 = .ok (.sipush (-999), 3) := dk_17 252 25 (dk_at dksX6_write_0 13 rfl rfl)
theorem dX6_write_16 : decode cX6_write 16 = .ok (.sipush 999, 3) := dk_17 3 231 (dk_at dksX6_write_0 16 rfl rfl)
theorem dX6_write_19 : decode cX6_write 19 = .ok (.invokestatic 39, 3) := dk_184 0 39 (dk_at dksX6_write_0 19 rfl rfl)
theorem dX6_write_22 : decode cX6_write 22 = .ok (.ifCond .eq 7, 3) := dk_153 0 7 (dk_at dksX6_write_1 0 rfl rfl)
theorem dX6_write_25 : decode cX6_write 25 = .ok (.iconst 1, 1) := dk_4 (dk_at dksX6_write_1 3 rfl rfl)
theorem dX6_write_26 : decode cX6_write 26 = .ok (.goto 4, 3) := dk_167 0 4 (dk_at dksX6_write_1 4 rfl rfl)
theorem dX6_write_29 : decode cX6_write 29 = .ok (.iconst 0, 1) := dk_3 (dk_at dksX6_write_1 7 rfl rfl)
theorem dX6_write_30 : decode cX6_write 30 = .ok (.bipush 80, 2) := dk_16 80 (dk_at dksX6_write_1 8 rfl rfl)
theorem dX6_write_32 : decode cX6_write 32 = .ok (.invokevirtual 212, 3) := dk_182 0 212 (dk_at dksX6_write_1 10 rfl rfl)
theorem dX6_write_35 : decode cX6_write 35 = .ok (.ifCond .eq 7, 3) := dk_153 0 7 (dk_at dksX6_write_1 13 rfl rfl)
theorem dX6_write_38 : decode cX6_write 38 = .ok (.iconst 0, 1) := dk_3 (dk_at dksX6_write_1 16 rfl rfl)
theorem dX6_write_39 : decode cX6_write 39 = .ok (.goto 12, 3) := dk_167 0 12 (dk_at dksX6_write_1 17 rfl rfl)
theorem dX6_write_42 : decode cX6_write 42 = .ok (.aload_n 0, 1) := dk_42 (dk_at dksX6_write_1 20 rfl rfl)
theorem dX6_write_43 : decode cX6_write 43 = .ok (.iload_n 1, 1) := dk_27 (dk_at dksX6_write_1 21 rfl rfl)
theorem dX6_write_44 : decode cX6_write 44 = .ok (.bipush 119, 2) := dk_16 119 (dk_at dksX6_write_1 22 rfl rfl)
theorem dX6_write_46 : decode cX6_write 46 = .ok (.iload_n 2, 1) := dk_28 (dk_at dksX6_write_2 0 rfl rfl)
theorem dX6_write_47 : decode cX6_write 47 = .ok (.iload_n 3, 1) := dk_29 (dk_at dksX6_write_2 1 rfl rfl)
theorem dX6_write_48 : decode cX6_write 48 = .ok (.invokevirtual 216, 3) := dk_182 0 216 (dk_at dksX6_write_2 2 rfl rfl)
theorem dX6_write_51 : decode cX6_write 51 = .ok (.ireturn, 1) := dk_172 (dk_at dksX6_write_2 5 rfl rfl)
abbrev cX6_failsLeader : ByteArray := prog_19_method_37_code
def yX6_failsLeader : MethodName := ⟨RX6, "failsLeader", "(IZI)Z"⟩
def dkwX6_failsLeader_2 : List UInt8 := [182, 0, 133, 29, 161, 0, 7, 6, 167, 0, 4, 3, 182, 0, 43, 172]
abbrev dktX6_failsLeader_2 : List UInt8 := dkwX6_failsLeader_2 ++ []
def dkwX6_failsLeader_1 : List UInt8 := [167, 0, 35, 25, 4, 180, 0, 77, 153, 0, 22, 25, 4, 180, 0, 123, 16, 108, 160, 0, 12, 25, 4]
abbrev dktX6_failsLeader_1 : List UInt8 := dkwX6_failsLeader_1 ++ dktX6_failsLeader_2
def dkwX6_failsLeader_0 : List UInt8 := [42, 27, 182, 0, 74, 153, 0, 5, 4, 172, 42, 180, 0, 15, 27, 50, 58, 4, 42, 28, 154, 0, 7, 5]
abbrev dktX6_failsLeader_0 : List UInt8 := dkwX6_failsLeader_0 ++ dktX6_failsLeader_1
theorem dksX6_failsLeader_0 : cX6_failsLeader.data.toList.drop 0 = dktX6_failsLeader_0 := by decide +kernel
theorem dksX6_failsLeader_1 : cX6_failsLeader.data.toList.drop 24 = dktX6_failsLeader_1 := dk_seg dksX6_failsLeader_0 24 rfl rfl
theorem dksX6_failsLeader_2 : cX6_failsLeader.data.toList.drop 47 = dktX6_failsLeader_2 := dk_seg dksX6_failsLeader_1 23 rfl rfl
theorem dX6_failsLeader_0 : decode cX6_failsLeader 0 = .ok (.aload_n 0, 1) := dk_42 (dk_at dksX6_failsLeader_0 0 rfl rfl)
theorem dX6_failsLeader_1 : decode cX6_failsLeader 1 = .ok (.iload_n 1, 1) := dk_27 (dk_at dksX6_failsLeader_0 1 rfl rfl)
theorem dX6_failsLeader_2 : decode cX6_failsLeader 2 = .ok (.invokevirtual 74, 3) := dk_182 0 74 (dk_at dksX6_failsLeader_0 2 rfl rfl)
theorem dX6_failsLeader_5 : decode cX6_failsLeader 5 = .ok (.ifCond .eq 5, 3) := dk_153 0 5 (dk_at dksX6_failsLeader_0 5 rfl rfl)
theorem dX6_failsLeader_8 : decode cX6_failsLeader 8 = .ok (.iconst 1, 1) := dk_4 (dk_at dksX6_failsLeader_0 8 rfl rfl)
theorem dX6_failsLeader_9 : decode cX6_failsLeader 9 = .ok (.ireturn, 1) := dk_172 (dk_at dksX6_failsLeader_0 9 rfl rfl)
theorem dX6_failsLeader_10 : decode cX6_failsLeader 10 = .ok (.aload_n 0, 1) := dk_42 (dk_at dksX6_failsLeader_0 10 rfl rfl)
theorem dX6_failsLeader_11 : decode cX6_failsLeader 11 = .ok (.getfield 15, 3) := dk_180 0 15 (dk_at dksX6_failsLeader_0 11 rfl rfl)
theorem dX6_failsLeader_14 : decode cX6_failsLeader 14 = .ok (.iload_n 1, 1) := dk_27 (dk_at dksX6_failsLeader_0 14 rfl rfl)
theorem dX6_failsLeader_15 : decode cX6_failsLeader 15 = .ok (.aaload, 1) := dk_50 (dk_at dksX6_failsLeader_0 15 rfl rfl)
theorem dX6_failsLeader_16 : decode cX6_failsLeader 16 = .ok (.astore 4, 2) := dk_58 4 (dk_at dksX6_failsLeader_0 16 rfl rfl)
theorem dX6_failsLeader_18 : decode cX6_failsLeader 18 = .ok (.aload_n 0, 1) := dk_42 (dk_at dksX6_failsLeader_0 18 rfl rfl)
theorem dX6_failsLeader_19 : decode cX6_failsLeader 19 = .ok (.iload_n 2, 1) := dk_28 (dk_at dksX6_failsLeader_0 19 rfl rfl)
theorem dX6_failsLeader_20 : decode cX6_failsLeader 20 = .ok (.ifCond .ne 7, 3) := dk_154 0 7 (dk_at dksX6_failsLeader_0 20 rfl rfl)
theorem dX6_failsLeader_23 : decode cX6_failsLeader 23 = .ok (.iconst 2, 1) := dk_5 (dk_at dksX6_failsLeader_0 23 rfl rfl)
theorem dX6_failsLeader_24 : decode cX6_failsLeader 24 = .ok (.goto 35, 3) := dk_167 0 35 (dk_at dksX6_failsLeader_1 0 rfl rfl)
theorem dX6_failsLeader_27 : decode cX6_failsLeader 27 = .ok (.aload 4, 2) := dk_25 4 (dk_at dksX6_failsLeader_1 3 rfl rfl)
theorem dX6_failsLeader_29 : decode cX6_failsLeader 29 = .ok (.getfield 77, 3) := dk_180 0 77 (dk_at dksX6_failsLeader_1 5 rfl rfl)
theorem dX6_failsLeader_32 : decode cX6_failsLeader 32 = .ok (.ifCond .eq 22, 3) := dk_153 0 22 (dk_at dksX6_failsLeader_1 8 rfl rfl)
theorem dX6_failsLeader_35 : decode cX6_failsLeader 35 = .ok (.aload 4, 2) := dk_25 4 (dk_at dksX6_failsLeader_1 11 rfl rfl)
theorem dX6_failsLeader_37 : decode cX6_failsLeader 37 = .ok (.getfield 123, 3) := dk_180 0 123 (dk_at dksX6_failsLeader_1 13 rfl rfl)
theorem dX6_failsLeader_40 : decode cX6_failsLeader 40 = .ok (.bipush 108, 2) := dk_16 108 (dk_at dksX6_failsLeader_1 16 rfl rfl)
theorem dX6_failsLeader_42 : decode cX6_failsLeader 42 = .ok (.if_icmp .ne 12, 3) := dk_160 0 12 (dk_at dksX6_failsLeader_1 18 rfl rfl)
theorem dX6_failsLeader_45 : decode cX6_failsLeader 45 = .ok (.aload 4, 2) := dk_25 4 (dk_at dksX6_failsLeader_1 21 rfl rfl)
theorem dX6_failsLeader_47 : decode cX6_failsLeader 47 = .ok (.invokevirtual 133, 3) := dk_182 0 133 (dk_at dksX6_failsLeader_2 0 rfl rfl)
theorem dX6_failsLeader_50 : decode cX6_failsLeader 50 = .ok (.iload_n 3, 1) := dk_29 (dk_at dksX6_failsLeader_2 3 rfl rfl)
theorem dX6_failsLeader_51 : decode cX6_failsLeader 51 = .ok (.if_icmp .lt 7, 3) := dk_161 0 7 (dk_at dksX6_failsLeader_2 4 rfl rfl)
theorem dX6_failsLeader_54 : decode cX6_failsLeader 54 = .ok (.iconst 3, 1) := dk_6 (dk_at dksX6_failsLeader_2 7 rfl rfl)
theorem dX6_failsLeader_55 : decode cX6_failsLeader 55 = .ok (.goto 4, 3) := dk_167 0 4 (dk_at dksX6_failsLeader_2 8 rfl rfl)
theorem dX6_failsLeader_58 : decode cX6_failsLeader 58 = .ok (.iconst 0, 1) := dk_3 (dk_at dksX6_failsLeader_2 11 rfl rfl)
theorem dX6_failsLeader_59 : decode cX6_failsLeader 59 = .ok (.invokevirtual 43, 3) := dk_182 0 43 (dk_at dksX6_failsLeader_2 12 rfl rfl)
theorem dX6_failsLeader_62 : decode cX6_failsLeader 62 = .ok (.ireturn, 1) := dk_172 (dk_at dksX6_failsLeader_2 15 rfl rfl)
abbrev cX6_proposes : ByteArray := prog_19_method_38_code
def yX6_proposes : MethodName := ⟨RX6, "proposes", "(ICII)I"⟩
def dkwX6_proposes_2 : List UInt8 := [172]
abbrev dktX6_proposes_2 : List UInt8 := dkwX6_proposes_2 ++ []
def dkwX6_proposes_1 : List UInt8 := [21, 4, 183, 0, 208, 182, 0, 51, 54, 6, 25, 5, 182, 0, 133, 54, 7, 25, 5, 182, 0, 209, 21, 7]
abbrev dktX6_proposes_1 : List UInt8 := dkwX6_proposes_1 ++ dktX6_proposes_2
def dkwX6_proposes_0 : List UInt8 := [42, 180, 0, 15, 27, 50, 58, 5, 25, 5, 180, 0, 205, 187, 0, 154, 89, 25, 5, 180, 0, 127, 28, 29]
abbrev dktX6_proposes_0 : List UInt8 := dkwX6_proposes_0 ++ dktX6_proposes_1
theorem dksX6_proposes_0 : cX6_proposes.data.toList.drop 0 = dktX6_proposes_0 := by decide +kernel
theorem dksX6_proposes_1 : cX6_proposes.data.toList.drop 24 = dktX6_proposes_1 := dk_seg dksX6_proposes_0 24 rfl rfl
theorem dksX6_proposes_2 : cX6_proposes.data.toList.drop 48 = dktX6_proposes_2 := dk_seg dksX6_proposes_1 24 rfl rfl
theorem dX6_proposes_0 : decode cX6_proposes 0 = .ok (.aload_n 0, 1) := dk_42 (dk_at dksX6_proposes_0 0 rfl rfl)
theorem dX6_proposes_1 : decode cX6_proposes 1 = .ok (.getfield 15, 3) := dk_180 0 15 (dk_at dksX6_proposes_0 1 rfl rfl)
theorem dX6_proposes_4 : decode cX6_proposes 4 = .ok (.iload_n 1, 1) := dk_27 (dk_at dksX6_proposes_0 4 rfl rfl)
theorem dX6_proposes_5 : decode cX6_proposes 5 = .ok (.aaload, 1) := dk_50 (dk_at dksX6_proposes_0 5 rfl rfl)
theorem dX6_proposes_6 : decode cX6_proposes 6 = .ok (.astore 5, 2) := dk_58 5 (dk_at dksX6_proposes_0 6 rfl rfl)
theorem dX6_proposes_8 : decode cX6_proposes 8 = .ok (.aload 5, 2) := dk_25 5 (dk_at dksX6_proposes_0 8 rfl rfl)
theorem dX6_proposes_10 : decode cX6_proposes 10 = .ok (.getfield 205, 3) := dk_180 0 205 (dk_at dksX6_proposes_0 10 rfl rfl)
theorem dX6_proposes_13 : decode cX6_proposes 13 = .ok (.new 154, 3) := dk_187 0 154 (dk_at dksX6_proposes_0 13 rfl rfl)
theorem dX6_proposes_16 : decode cX6_proposes 16 = .ok (.dup, 1) := dk_89 (dk_at dksX6_proposes_0 16 rfl rfl)
theorem dX6_proposes_17 : decode cX6_proposes 17 = .ok (.aload 5, 2) := dk_25 5 (dk_at dksX6_proposes_0 17 rfl rfl)
theorem dX6_proposes_19 : decode cX6_proposes 19 = .ok (.getfield 127, 3) := dk_180 0 127 (dk_at dksX6_proposes_0 19 rfl rfl)
theorem dX6_proposes_22 : decode cX6_proposes 22 = .ok (.iload_n 2, 1) := dk_28 (dk_at dksX6_proposes_0 22 rfl rfl)
theorem dX6_proposes_23 : decode cX6_proposes 23 = .ok (.iload_n 3, 1) := dk_29 (dk_at dksX6_proposes_0 23 rfl rfl)
theorem dX6_proposes_24 : decode cX6_proposes 24 = .ok (.iload 4, 2) := dk_21 4 (dk_at dksX6_proposes_1 0 rfl rfl)
theorem dX6_proposes_26 : decode cX6_proposes 26 = .ok (.invokespecial 208, 3) := dk_183 0 208 (dk_at dksX6_proposes_1 2 rfl rfl)
theorem dX6_proposes_29 : decode cX6_proposes 29 = .ok (.invokevirtual 51, 3) := dk_182 0 51 (dk_at dksX6_proposes_1 5 rfl rfl)
theorem dX6_proposes_32 : decode cX6_proposes 32 = .ok (.istore 6, 2) := dk_54 6 (dk_at dksX6_proposes_1 8 rfl rfl)
theorem dX6_proposes_34 : decode cX6_proposes 34 = .ok (.aload 5, 2) := dk_25 5 (dk_at dksX6_proposes_1 10 rfl rfl)
theorem dX6_proposes_36 : decode cX6_proposes 36 = .ok (.invokevirtual 133, 3) := dk_182 0 133 (dk_at dksX6_proposes_1 12 rfl rfl)
theorem dX6_proposes_39 : decode cX6_proposes 39 = .ok (.istore 7, 2) := dk_54 7 (dk_at dksX6_proposes_1 15 rfl rfl)
theorem dX6_proposes_41 : decode cX6_proposes 41 = .ok (.aload 5, 2) := dk_25 5 (dk_at dksX6_proposes_1 17 rfl rfl)
theorem dX6_proposes_43 : decode cX6_proposes 43 = .ok (.invokevirtual 209, 3) := dk_182 0 209 (dk_at dksX6_proposes_1 19 rfl rfl)
theorem dX6_proposes_46 : decode cX6_proposes 46 = .ok (.iload 7, 2) := dk_21 7 (dk_at dksX6_proposes_1 22 rfl rfl)
theorem dX6_proposes_48 : decode cX6_proposes 48 = .ok (.ireturn, 1) := dk_172 (dk_at dksX6_proposes_2 0 rfl rfl)
abbrev cX6_reshape : ByteArray := prog_19_method_40_code
def yX6_reshape : MethodName := ⟨RX6, "reshape", "(IIZ)I"⟩
def dkwX6_reshape_1 : List UInt8 := [153, 0, 8, 16, 115, 167, 0, 5, 16, 109, 28, 3, 182, 0, 216, 172]
abbrev dktX6_reshape_1 : List UInt8 := dkwX6_reshape_1 ++ []
def dkwX6_reshape_0 : List UInt8 := [42, 27, 28, 4, 16, 19, 184, 0, 39, 16, 80, 182, 0, 212, 153, 0, 7, 3, 167, 0, 21, 42, 27, 29]
abbrev dktX6_reshape_0 : List UInt8 := dkwX6_reshape_0 ++ dktX6_reshape_1
theorem dksX6_reshape_0 : cX6_reshape.data.toList.drop 0 = dktX6_reshape_0 := by decide +kernel
theorem dksX6_reshape_1 : cX6_reshape.data.toList.drop 24 = dktX6_reshape_1 := dk_seg dksX6_reshape_0 24 rfl rfl
theorem dX6_reshape_0 : decode cX6_reshape 0 = .ok (.aload_n 0, 1) := dk_42 (dk_at dksX6_reshape_0 0 rfl rfl)
theorem dX6_reshape_1 : decode cX6_reshape 1 = .ok (.iload_n 1, 1) := dk_27 (dk_at dksX6_reshape_0 1 rfl rfl)
theorem dX6_reshape_2 : decode cX6_reshape 2 = .ok (.iload_n 2, 1) := dk_28 (dk_at dksX6_reshape_0 2 rfl rfl)
theorem dX6_reshape_3 : decode cX6_reshape 3 = .ok (.iconst 1, 1) := dk_4 (dk_at dksX6_reshape_0 3 rfl rfl)
theorem dX6_reshape_4 : decode cX6_reshape 4 = .ok (.bipush 19, 2) := dk_16 19 (dk_at dksX6_reshape_0 4 rfl rfl)
theorem dX6_reshape_6 : decode cX6_reshape 6 = .ok (.invokestatic 39, 3) := dk_184 0 39 (dk_at dksX6_reshape_0 6 rfl rfl)
theorem dX6_reshape_9 : decode cX6_reshape 9 = .ok (.bipush 80, 2) := dk_16 80 (dk_at dksX6_reshape_0 9 rfl rfl)
theorem dX6_reshape_11 : decode cX6_reshape 11 = .ok (.invokevirtual 212, 3) := dk_182 0 212 (dk_at dksX6_reshape_0 11 rfl rfl)
theorem dX6_reshape_14 : decode cX6_reshape 14 = .ok (.ifCond .eq 7, 3) := dk_153 0 7 (dk_at dksX6_reshape_0 14 rfl rfl)
theorem dX6_reshape_17 : decode cX6_reshape 17 = .ok (.iconst 0, 1) := dk_3 (dk_at dksX6_reshape_0 17 rfl rfl)
theorem dX6_reshape_18 : decode cX6_reshape 18 = .ok (.goto 21, 3) := dk_167 0 21 (dk_at dksX6_reshape_0 18 rfl rfl)
theorem dX6_reshape_21 : decode cX6_reshape 21 = .ok (.aload_n 0, 1) := dk_42 (dk_at dksX6_reshape_0 21 rfl rfl)
theorem dX6_reshape_22 : decode cX6_reshape 22 = .ok (.iload_n 1, 1) := dk_27 (dk_at dksX6_reshape_0 22 rfl rfl)
theorem dX6_reshape_23 : decode cX6_reshape 23 = .ok (.iload_n 3, 1) := dk_29 (dk_at dksX6_reshape_0 23 rfl rfl)
theorem dX6_reshape_24 : decode cX6_reshape 24 = .ok (.ifCond .eq 8, 3) := dk_153 0 8 (dk_at dksX6_reshape_1 0 rfl rfl)
theorem dX6_reshape_27 : decode cX6_reshape 27 = .ok (.bipush 115, 2) := dk_16 115 (dk_at dksX6_reshape_1 3 rfl rfl)
theorem dX6_reshape_29 : decode cX6_reshape 29 = .ok (.goto 5, 3) := dk_167 0 5 (dk_at dksX6_reshape_1 5 rfl rfl)
theorem dX6_reshape_32 : decode cX6_reshape 32 = .ok (.bipush 109, 2) := dk_16 109 (dk_at dksX6_reshape_1 8 rfl rfl)
theorem dX6_reshape_34 : decode cX6_reshape 34 = .ok (.iload_n 2, 1) := dk_28 (dk_at dksX6_reshape_1 10 rfl rfl)
theorem dX6_reshape_35 : decode cX6_reshape 35 = .ok (.iconst 0, 1) := dk_3 (dk_at dksX6_reshape_1 11 rfl rfl)
theorem dX6_reshape_36 : decode cX6_reshape 36 = .ok (.invokevirtual 216, 3) := dk_182 0 216 (dk_at dksX6_reshape_1 12 rfl rfl)
theorem dX6_reshape_39 : decode cX6_reshape 39 = .ok (.ireturn, 1) := dk_172 (dk_at dksX6_reshape_1 15 rfl rfl)
abbrev cX6_change : ByteArray := prog_19_method_41_code
def yX6_change : MethodName := ⟨RX6, "change", "(II)I"⟩
def dkwX6_change_4 : List UInt8 := [45, 45, 182, 0, 133, 182, 0, 229, 28, 182, 0, 216, 172]
abbrev dktX6_change_4 : List UInt8 := dkwX6_change_4 ++ []
def dkwX6_change_3 : List UInt8 := [21, 5, 153, 0, 7, 3, 167, 0, 4, 7, 182, 0, 43, 153, 0, 7, 3, 167, 0, 19, 42, 27, 16, 106]
abbrev dktX6_change_3 : List UInt8 := dkwX6_change_3 ++ dktX6_change_4
def dkwX6_change_2 : List UInt8 := [21, 4, 45, 180, 0, 108, 163, 0, 14, 45, 182, 0, 226, 153, 0, 7, 4, 167, 0, 4, 3, 54, 5, 42]
abbrev dktX6_change_2 : List UInt8 := dkwX6_change_2 ++ dktX6_change_3
def dkwX6_change_1 : List UInt8 := [50, 78, 45, 45, 182, 0, 133, 182, 0, 220, 54, 4, 45, 45, 182, 0, 133, 182, 0, 223, 154, 0, 23]
abbrev dktX6_change_1 : List UInt8 := dkwX6_change_1 ++ dktX6_change_2
def dkwX6_change_0 : List UInt8 := [42, 27, 28, 4, 16, 31, 184, 0, 39, 16, 79, 182, 0, 212, 153, 0, 5, 3, 172, 42, 180, 0, 15, 27]
abbrev dktX6_change_0 : List UInt8 := dkwX6_change_0 ++ dktX6_change_1
theorem dksX6_change_0 : cX6_change.data.toList.drop 0 = dktX6_change_0 := by decide +kernel
theorem dksX6_change_1 : cX6_change.data.toList.drop 24 = dktX6_change_1 := dk_seg dksX6_change_0 24 rfl rfl
theorem dksX6_change_2 : cX6_change.data.toList.drop 47 = dktX6_change_2 := dk_seg dksX6_change_1 23 rfl rfl
theorem dksX6_change_3 : cX6_change.data.toList.drop 71 = dktX6_change_3 := dk_seg dksX6_change_2 24 rfl rfl
theorem dksX6_change_4 : cX6_change.data.toList.drop 95 = dktX6_change_4 := dk_seg dksX6_change_3 24 rfl rfl
theorem dX6_change_0 : decode cX6_change 0 = .ok (.aload_n 0, 1) := dk_42 (dk_at dksX6_change_0 0 rfl rfl)
theorem dX6_change_1 : decode cX6_change 1 = .ok (.iload_n 1, 1) := dk_27 (dk_at dksX6_change_0 1 rfl rfl)
theorem dX6_change_2 : decode cX6_change 2 = .ok (.iload_n 2, 1) := dk_28 (dk_at dksX6_change_0 2 rfl rfl)
theorem dX6_change_3 : decode cX6_change 3 = .ok (.iconst 1, 1) := dk_4 (dk_at dksX6_change_0 3 rfl rfl)
theorem dX6_change_4 : decode cX6_change 4 = .ok (.bipush 31, 2) := dk_16 31 (dk_at dksX6_change_0 4 rfl rfl)
theorem dX6_change_6 : decode cX6_change 6 = .ok (.invokestatic 39, 3) := dk_184 0 39 (dk_at dksX6_change_0 6 rfl rfl)
theorem dX6_change_9 : decode cX6_change 9 = .ok (.bipush 79, 2) := dk_16 79 (dk_at dksX6_change_0 9 rfl rfl)
theorem dX6_change_11 : decode cX6_change 11 = .ok (.invokevirtual 212, 3) := dk_182 0 212 (dk_at dksX6_change_0 11 rfl rfl)
theorem dX6_change_14 : decode cX6_change 14 = .ok (.ifCond .eq 5, 3) := dk_153 0 5 (dk_at dksX6_change_0 14 rfl rfl)
theorem dX6_change_17 : decode cX6_change 17 = .ok (.iconst 0, 1) := dk_3 (dk_at dksX6_change_0 17 rfl rfl)
theorem dX6_change_18 : decode cX6_change 18 = .ok (.ireturn, 1) := dk_172 (dk_at dksX6_change_0 18 rfl rfl)
theorem dX6_change_19 : decode cX6_change 19 = .ok (.aload_n 0, 1) := dk_42 (dk_at dksX6_change_0 19 rfl rfl)
theorem dX6_change_20 : decode cX6_change 20 = .ok (.getfield 15, 3) := dk_180 0 15 (dk_at dksX6_change_0 20 rfl rfl)
theorem dX6_change_23 : decode cX6_change 23 = .ok (.iload_n 1, 1) := dk_27 (dk_at dksX6_change_0 23 rfl rfl)
theorem dX6_change_24 : decode cX6_change 24 = .ok (.aaload, 1) := dk_50 (dk_at dksX6_change_1 0 rfl rfl)
theorem dX6_change_25 : decode cX6_change 25 = .ok (.astore_n 3, 1) := dk_78 (dk_at dksX6_change_1 1 rfl rfl)
theorem dX6_change_26 : decode cX6_change 26 = .ok (.aload_n 3, 1) := dk_45 (dk_at dksX6_change_1 2 rfl rfl)
theorem dX6_change_27 : decode cX6_change 27 = .ok (.aload_n 3, 1) := dk_45 (dk_at dksX6_change_1 3 rfl rfl)
theorem dX6_change_28 : decode cX6_change 28 = .ok (.invokevirtual 133, 3) := dk_182 0 133 (dk_at dksX6_change_1 4 rfl rfl)
theorem dX6_change_31 : decode cX6_change 31 = .ok (.invokevirtual 220, 3) := dk_182 0 220 (dk_at dksX6_change_1 7 rfl rfl)
theorem dX6_change_34 : decode cX6_change 34 = .ok (.istore 4, 2) := dk_54 4 (dk_at dksX6_change_1 10 rfl rfl)
theorem dX6_change_36 : decode cX6_change 36 = .ok (.aload_n 3, 1) := dk_45 (dk_at dksX6_change_1 12 rfl rfl)
theorem dX6_change_37 : decode cX6_change 37 = .ok (.aload_n 3, 1) := dk_45 (dk_at dksX6_change_1 13 rfl rfl)
theorem dX6_change_38 : decode cX6_change 38 = .ok (.invokevirtual 133, 3) := dk_182 0 133 (dk_at dksX6_change_1 14 rfl rfl)
theorem dX6_change_41 : decode cX6_change 41 = .ok (.invokevirtual 223, 3) := dk_182 0 223 (dk_at dksX6_change_1 17 rfl rfl)
theorem dX6_change_44 : decode cX6_change 44 = .ok (.ifCond .ne 23, 3) := dk_154 0 23 (dk_at dksX6_change_1 20 rfl rfl)
theorem dX6_change_47 : decode cX6_change 47 = .ok (.iload 4, 2) := dk_21 4 (dk_at dksX6_change_2 0 rfl rfl)
theorem dX6_change_49 : decode cX6_change 49 = .ok (.aload_n 3, 1) := dk_45 (dk_at dksX6_change_2 2 rfl rfl)
theorem dX6_change_50 : decode cX6_change 50 = .ok (.getfield 108, 3) := dk_180 0 108 (dk_at dksX6_change_2 3 rfl rfl)
theorem dX6_change_53 : decode cX6_change 53 = .ok (.if_icmp .gt 14, 3) := dk_163 0 14 (dk_at dksX6_change_2 6 rfl rfl)
theorem dX6_change_56 : decode cX6_change 56 = .ok (.aload_n 3, 1) := dk_45 (dk_at dksX6_change_2 9 rfl rfl)
theorem dX6_change_57 : decode cX6_change 57 = .ok (.invokevirtual 226, 3) := dk_182 0 226 (dk_at dksX6_change_2 10 rfl rfl)
theorem dX6_change_60 : decode cX6_change 60 = .ok (.ifCond .eq 7, 3) := dk_153 0 7 (dk_at dksX6_change_2 13 rfl rfl)
theorem dX6_change_63 : decode cX6_change 63 = .ok (.iconst 1, 1) := dk_4 (dk_at dksX6_change_2 16 rfl rfl)
theorem dX6_change_64 : decode cX6_change 64 = .ok (.goto 4, 3) := dk_167 0 4 (dk_at dksX6_change_2 17 rfl rfl)
theorem dX6_change_67 : decode cX6_change 67 = .ok (.iconst 0, 1) := dk_3 (dk_at dksX6_change_2 20 rfl rfl)
theorem dX6_change_68 : decode cX6_change 68 = .ok (.istore 5, 2) := dk_54 5 (dk_at dksX6_change_2 21 rfl rfl)
theorem dX6_change_70 : decode cX6_change 70 = .ok (.aload_n 0, 1) := dk_42 (dk_at dksX6_change_2 23 rfl rfl)
theorem dX6_change_71 : decode cX6_change 71 = .ok (.iload 5, 2) := dk_21 5 (dk_at dksX6_change_3 0 rfl rfl)
theorem dX6_change_73 : decode cX6_change 73 = .ok (.ifCond .eq 7, 3) := dk_153 0 7 (dk_at dksX6_change_3 2 rfl rfl)
theorem dX6_change_76 : decode cX6_change 76 = .ok (.iconst 0, 1) := dk_3 (dk_at dksX6_change_3 5 rfl rfl)
theorem dX6_change_77 : decode cX6_change 77 = .ok (.goto 4, 3) := dk_167 0 4 (dk_at dksX6_change_3 6 rfl rfl)
theorem dX6_change_80 : decode cX6_change 80 = .ok (.iconst 4, 1) := dk_7 (dk_at dksX6_change_3 9 rfl rfl)
theorem dX6_change_81 : decode cX6_change 81 = .ok (.invokevirtual 43, 3) := dk_182 0 43 (dk_at dksX6_change_3 10 rfl rfl)
theorem dX6_change_84 : decode cX6_change 84 = .ok (.ifCond .eq 7, 3) := dk_153 0 7 (dk_at dksX6_change_3 13 rfl rfl)
theorem dX6_change_87 : decode cX6_change 87 = .ok (.iconst 0, 1) := dk_3 (dk_at dksX6_change_3 16 rfl rfl)
theorem dX6_change_88 : decode cX6_change 88 = .ok (.goto 19, 3) := dk_167 0 19 (dk_at dksX6_change_3 17 rfl rfl)
theorem dX6_change_91 : decode cX6_change 91 = .ok (.aload_n 0, 1) := dk_42 (dk_at dksX6_change_3 20 rfl rfl)
theorem dX6_change_92 : decode cX6_change 92 = .ok (.iload_n 1, 1) := dk_27 (dk_at dksX6_change_3 21 rfl rfl)
theorem dX6_change_93 : decode cX6_change 93 = .ok (.bipush 106, 2) := dk_16 106 (dk_at dksX6_change_3 22 rfl rfl)
theorem dX6_change_95 : decode cX6_change 95 = .ok (.aload_n 3, 1) := dk_45 (dk_at dksX6_change_4 0 rfl rfl)
theorem dX6_change_96 : decode cX6_change 96 = .ok (.aload_n 3, 1) := dk_45 (dk_at dksX6_change_4 1 rfl rfl)
theorem dX6_change_97 : decode cX6_change 97 = .ok (.invokevirtual 133, 3) := dk_182 0 133 (dk_at dksX6_change_4 2 rfl rfl)
theorem dX6_change_100 : decode cX6_change 100 = .ok (.invokevirtual 229, 3) := dk_182 0 229 (dk_at dksX6_change_4 5 rfl rfl)
theorem dX6_change_103 : decode cX6_change 103 = .ok (.iload_n 2, 1) := dk_28 (dk_at dksX6_change_4 8 rfl rfl)
theorem dX6_change_104 : decode cX6_change 104 = .ok (.invokevirtual 216, 3) := dk_182 0 216 (dk_at dksX6_change_4 9 rfl rfl)
theorem dX6_change_107 : decode cX6_change 107 = .ok (.ireturn, 1) := dk_172 (dk_at dksX6_change_4 12 rfl rfl)
abbrev cX6_hasLease : ByteArray := prog_19_method_42_code
def yX6_hasLease : MethodName := ⟨RX6, "hasLease", "(I)Z"⟩
def dkwX6_hasLease_1 : List UInt8 := [27, 50, 182, 0, 232, 153, 0, 7, 4, 167, 0, 4, 3, 172]
abbrev dktX6_hasLease_1 : List UInt8 := dkwX6_hasLease_1 ++ []
def dkwX6_hasLease_0 : List UInt8 := [42, 27, 182, 0, 74, 154, 0, 31, 42, 180, 0, 15, 27, 50, 180, 0, 77, 153, 0, 19, 42, 180, 0, 15]
abbrev dktX6_hasLease_0 : List UInt8 := dkwX6_hasLease_0 ++ dktX6_hasLease_1
theorem dksX6_hasLease_0 : cX6_hasLease.data.toList.drop 0 = dktX6_hasLease_0 := by decide +kernel
theorem dksX6_hasLease_1 : cX6_hasLease.data.toList.drop 24 = dktX6_hasLease_1 := dk_seg dksX6_hasLease_0 24 rfl rfl
theorem dX6_hasLease_0 : decode cX6_hasLease 0 = .ok (.aload_n 0, 1) := dk_42 (dk_at dksX6_hasLease_0 0 rfl rfl)
theorem dX6_hasLease_1 : decode cX6_hasLease 1 = .ok (.iload_n 1, 1) := dk_27 (dk_at dksX6_hasLease_0 1 rfl rfl)
theorem dX6_hasLease_2 : decode cX6_hasLease 2 = .ok (.invokevirtual 74, 3) := dk_182 0 74 (dk_at dksX6_hasLease_0 2 rfl rfl)
theorem dX6_hasLease_5 : decode cX6_hasLease 5 = .ok (.ifCond .ne 31, 3) := dk_154 0 31 (dk_at dksX6_hasLease_0 5 rfl rfl)
theorem dX6_hasLease_8 : decode cX6_hasLease 8 = .ok (.aload_n 0, 1) := dk_42 (dk_at dksX6_hasLease_0 8 rfl rfl)
theorem dX6_hasLease_9 : decode cX6_hasLease 9 = .ok (.getfield 15, 3) := dk_180 0 15 (dk_at dksX6_hasLease_0 9 rfl rfl)
theorem dX6_hasLease_12 : decode cX6_hasLease 12 = .ok (.iload_n 1, 1) := dk_27 (dk_at dksX6_hasLease_0 12 rfl rfl)
theorem dX6_hasLease_13 : decode cX6_hasLease 13 = .ok (.aaload, 1) := dk_50 (dk_at dksX6_hasLease_0 13 rfl rfl)
theorem dX6_hasLease_14 : decode cX6_hasLease 14 = .ok (.getfield 77, 3) := dk_180 0 77 (dk_at dksX6_hasLease_0 14 rfl rfl)
theorem dX6_hasLease_17 : decode cX6_hasLease 17 = .ok (.ifCond .eq 19, 3) := dk_153 0 19 (dk_at dksX6_hasLease_0 17 rfl rfl)
theorem dX6_hasLease_20 : decode cX6_hasLease 20 = .ok (.aload_n 0, 1) := dk_42 (dk_at dksX6_hasLease_0 20 rfl rfl)
theorem dX6_hasLease_21 : decode cX6_hasLease 21 = .ok (.getfield 15, 3) := dk_180 0 15 (dk_at dksX6_hasLease_0 21 rfl rfl)
theorem dX6_hasLease_24 : decode cX6_hasLease 24 = .ok (.iload_n 1, 1) := dk_27 (dk_at dksX6_hasLease_1 0 rfl rfl)
theorem dX6_hasLease_25 : decode cX6_hasLease 25 = .ok (.aaload, 1) := dk_50 (dk_at dksX6_hasLease_1 1 rfl rfl)
theorem dX6_hasLease_26 : decode cX6_hasLease 26 = .ok (.invokevirtual 232, 3) := dk_182 0 232 (dk_at dksX6_hasLease_1 2 rfl rfl)
theorem dX6_hasLease_29 : decode cX6_hasLease 29 = .ok (.ifCond .eq 7, 3) := dk_153 0 7 (dk_at dksX6_hasLease_1 5 rfl rfl)
theorem dX6_hasLease_32 : decode cX6_hasLease 32 = .ok (.iconst 1, 1) := dk_4 (dk_at dksX6_hasLease_1 8 rfl rfl)
theorem dX6_hasLease_33 : decode cX6_hasLease 33 = .ok (.goto 4, 3) := dk_167 0 4 (dk_at dksX6_hasLease_1 9 rfl rfl)
theorem dX6_hasLease_36 : decode cX6_hasLease 36 = .ok (.iconst 0, 1) := dk_3 (dk_at dksX6_hasLease_1 12 rfl rfl)
theorem dX6_hasLease_37 : decode cX6_hasLease 37 = .ok (.ireturn, 1) := dk_172 (dk_at dksX6_hasLease_1 13 rfl rfl)
abbrev cX6_readByLease : ByteArray := prog_19_method_43_code
def yX6_readByLease : MethodName := ⟨RX6, "readByLease", "(II)I"⟩
def dkwX6_readByLease_3 : List UInt8 := [180, 0, 235, 180, 0, 239, 28, 46, 172]
abbrev dktX6_readByLease_3 : List UInt8 := dkwX6_readByLease_3 ++ []
def dkwX6_readByLease_2 : List UInt8 := [154, 0, 7, 6, 167, 0, 4, 3, 182, 0, 43, 153, 0, 7, 3, 167, 0, 17, 42, 180, 0, 15, 27, 50]
abbrev dktX6_readByLease_2 : List UInt8 := dkwX6_readByLease_2 ++ dktX6_readByLease_3
def dkwX6_readByLease_1 : List UInt8 := [167, 0, 32, 42, 180, 0, 15, 27, 50, 180, 0, 77, 153, 0, 15, 42, 180, 0, 15, 27, 50, 182, 0, 232]
abbrev dktX6_readByLease_1 : List UInt8 := dkwX6_readByLease_1 ++ dktX6_readByLease_2
def dkwX6_readByLease_0 : List UInt8 := [42, 27, 182, 0, 74, 153, 0, 5, 3, 172, 42, 28, 3, 16, 19, 184, 0, 39, 154, 0, 7, 5]
abbrev dktX6_readByLease_0 : List UInt8 := dkwX6_readByLease_0 ++ dktX6_readByLease_1
theorem dksX6_readByLease_0 : cX6_readByLease.data.toList.drop 0 = dktX6_readByLease_0 := by decide +kernel
theorem dksX6_readByLease_1 : cX6_readByLease.data.toList.drop 22 = dktX6_readByLease_1 := dk_seg dksX6_readByLease_0 22 rfl rfl
theorem dksX6_readByLease_2 : cX6_readByLease.data.toList.drop 46 = dktX6_readByLease_2 := dk_seg dksX6_readByLease_1 24 rfl rfl
theorem dksX6_readByLease_3 : cX6_readByLease.data.toList.drop 70 = dktX6_readByLease_3 := dk_seg dksX6_readByLease_2 24 rfl rfl
theorem dX6_readByLease_0 : decode cX6_readByLease 0 = .ok (.aload_n 0, 1) := dk_42 (dk_at dksX6_readByLease_0 0 rfl rfl)
theorem dX6_readByLease_1 : decode cX6_readByLease 1 = .ok (.iload_n 1, 1) := dk_27 (dk_at dksX6_readByLease_0 1 rfl rfl)
theorem dX6_readByLease_2 : decode cX6_readByLease 2 = .ok (.invokevirtual 74, 3) := dk_182 0 74 (dk_at dksX6_readByLease_0 2 rfl rfl)
theorem dX6_readByLease_5 : decode cX6_readByLease 5 = .ok (.ifCond .eq 5, 3) := dk_153 0 5 (dk_at dksX6_readByLease_0 5 rfl rfl)
theorem dX6_readByLease_8 : decode cX6_readByLease 8 = .ok (.iconst 0, 1) := dk_3 (dk_at dksX6_readByLease_0 8 rfl rfl)
theorem dX6_readByLease_9 : decode cX6_readByLease 9 = .ok (.ireturn, 1) := dk_172 (dk_at dksX6_readByLease_0 9 rfl rfl)
theorem dX6_readByLease_10 : decode cX6_readByLease 10 = .ok (.aload_n 0, 1) := dk_42 (dk_at dksX6_readByLease_0 10 rfl rfl)
theorem dX6_readByLease_11 : decode cX6_readByLease 11 = .ok (.iload_n 2, 1) := dk_28 (dk_at dksX6_readByLease_0 11 rfl rfl)
theorem dX6_readByLease_12 : decode cX6_readByLease 12 = .ok (.iconst 0, 1) := dk_3 (dk_at dksX6_readByLease_0 12 rfl rfl)
theorem dX6_readByLease_13 : decode cX6_readByLease 13 = .ok (.bipush 19, 2) := dk_16 19 (dk_at dksX6_readByLease_0 13 rfl rfl)
theorem dX6_readByLease_15 : decode cX6_readByLease 15 = .ok (.invokestatic 39, 3) := dk_184 0 39 (dk_at dksX6_readByLease_0 15 rfl rfl)
theorem dX6_readByLease_18 : decode cX6_readByLease 18 = .ok (.ifCond .ne 7, 3) := dk_154 0 7 (dk_at dksX6_readByLease_0 18 rfl rfl)
theorem dX6_readByLease_21 : decode cX6_readByLease 21 = .ok (.iconst 2, 1) := dk_5 (dk_at dksX6_readByLease_0 21 rfl rfl)
theorem dX6_readByLease_22 : decode cX6_readByLease 22 = .ok (.goto 32, 3) := dk_167 0 32 (dk_at dksX6_readByLease_1 0 rfl rfl)
theorem dX6_readByLease_25 : decode cX6_readByLease 25 = .ok (.aload_n 0, 1) := dk_42 (dk_at dksX6_readByLease_1 3 rfl rfl)
theorem dX6_readByLease_26 : decode cX6_readByLease 26 = .ok (.getfield 15, 3) := dk_180 0 15 (dk_at dksX6_readByLease_1 4 rfl rfl)
theorem dX6_readByLease_29 : decode cX6_readByLease 29 = .ok (.iload_n 1, 1) := dk_27 (dk_at dksX6_readByLease_1 7 rfl rfl)
theorem dX6_readByLease_30 : decode cX6_readByLease 30 = .ok (.aaload, 1) := dk_50 (dk_at dksX6_readByLease_1 8 rfl rfl)
theorem dX6_readByLease_31 : decode cX6_readByLease 31 = .ok (.getfield 77, 3) := dk_180 0 77 (dk_at dksX6_readByLease_1 9 rfl rfl)
theorem dX6_readByLease_34 : decode cX6_readByLease 34 = .ok (.ifCond .eq 15, 3) := dk_153 0 15 (dk_at dksX6_readByLease_1 12 rfl rfl)
theorem dX6_readByLease_37 : decode cX6_readByLease 37 = .ok (.aload_n 0, 1) := dk_42 (dk_at dksX6_readByLease_1 15 rfl rfl)
theorem dX6_readByLease_38 : decode cX6_readByLease 38 = .ok (.getfield 15, 3) := dk_180 0 15 (dk_at dksX6_readByLease_1 16 rfl rfl)
theorem dX6_readByLease_41 : decode cX6_readByLease 41 = .ok (.iload_n 1, 1) := dk_27 (dk_at dksX6_readByLease_1 19 rfl rfl)
theorem dX6_readByLease_42 : decode cX6_readByLease 42 = .ok (.aaload, 1) := dk_50 (dk_at dksX6_readByLease_1 20 rfl rfl)
theorem dX6_readByLease_43 : decode cX6_readByLease 43 = .ok (.invokevirtual 232, 3) := dk_182 0 232 (dk_at dksX6_readByLease_1 21 rfl rfl)
theorem dX6_readByLease_46 : decode cX6_readByLease 46 = .ok (.ifCond .ne 7, 3) := dk_154 0 7 (dk_at dksX6_readByLease_2 0 rfl rfl)
theorem dX6_readByLease_49 : decode cX6_readByLease 49 = .ok (.iconst 3, 1) := dk_6 (dk_at dksX6_readByLease_2 3 rfl rfl)
theorem dX6_readByLease_50 : decode cX6_readByLease 50 = .ok (.goto 4, 3) := dk_167 0 4 (dk_at dksX6_readByLease_2 4 rfl rfl)
theorem dX6_readByLease_53 : decode cX6_readByLease 53 = .ok (.iconst 0, 1) := dk_3 (dk_at dksX6_readByLease_2 7 rfl rfl)
theorem dX6_readByLease_54 : decode cX6_readByLease 54 = .ok (.invokevirtual 43, 3) := dk_182 0 43 (dk_at dksX6_readByLease_2 8 rfl rfl)
theorem dX6_readByLease_57 : decode cX6_readByLease 57 = .ok (.ifCond .eq 7, 3) := dk_153 0 7 (dk_at dksX6_readByLease_2 11 rfl rfl)
theorem dX6_readByLease_60 : decode cX6_readByLease 60 = .ok (.iconst 0, 1) := dk_3 (dk_at dksX6_readByLease_2 14 rfl rfl)
theorem dX6_readByLease_61 : decode cX6_readByLease 61 = .ok (.goto 17, 3) := dk_167 0 17 (dk_at dksX6_readByLease_2 15 rfl rfl)
theorem dX6_readByLease_64 : decode cX6_readByLease 64 = .ok (.aload_n 0, 1) := dk_42 (dk_at dksX6_readByLease_2 18 rfl rfl)
theorem dX6_readByLease_65 : decode cX6_readByLease 65 = .ok (.getfield 15, 3) := dk_180 0 15 (dk_at dksX6_readByLease_2 19 rfl rfl)
theorem dX6_readByLease_68 : decode cX6_readByLease 68 = .ok (.iload_n 1, 1) := dk_27 (dk_at dksX6_readByLease_2 22 rfl rfl)
theorem dX6_readByLease_69 : decode cX6_readByLease 69 = .ok (.aaload, 1) := dk_50 (dk_at dksX6_readByLease_2 23 rfl rfl)
theorem dX6_readByLease_70 : decode cX6_readByLease 70 = .ok (.getfield 235, 3) := dk_180 0 235 (dk_at dksX6_readByLease_3 0 rfl rfl)
theorem dX6_readByLease_73 : decode cX6_readByLease 73 = .ok (.getfield 239, 3) := dk_180 0 239 (dk_at dksX6_readByLease_3 3 rfl rfl)
theorem dX6_readByLease_76 : decode cX6_readByLease 76 = .ok (.iload_n 2, 1) := dk_28 (dk_at dksX6_readByLease_3 6 rfl rfl)
theorem dX6_readByLease_77 : decode cX6_readByLease 77 = .ok (.iaload, 1) := dk_46 (dk_at dksX6_readByLease_3 7 rfl rfl)
theorem dX6_readByLease_78 : decode cX6_readByLease 78 = .ok (.ireturn, 1) := dk_172 (dk_at dksX6_readByLease_3 8 rfl rfl)
abbrev cX6_askRead : ByteArray := prog_19_method_44_code
def yX6_askRead : MethodName := ⟨RX6, "askRead", "(II)I"⟩
def dkwX6_askRead_8 : List UInt8 := [180, 0, 26, 182, 0, 47, 4, 100, 172]
abbrev dktX6_askRead_8 : List UInt8 := dkwX6_askRead_8 ++ []
def dkwX6_askRead_7 : List UInt8 := [180, 0, 127, 28, 45, 180, 0, 250, 182, 0, 47, 183, 0, 253, 182, 0, 51, 54, 6, 45, 182, 1, 0, 42]
abbrev dktX6_askRead_7 : List UInt8 := dkwX6_askRead_7 ++ dktX6_askRead_8
def dkwX6_askRead_6 : List UInt8 := [182, 0, 43, 153, 0, 5, 3, 172, 45, 182, 0, 209, 42, 180, 0, 26, 187, 0, 245, 89, 27, 45]
abbrev dktX6_askRead_6 : List UInt8 := dkwX6_askRead_6 ++ dktX6_askRead_7
def dkwX6_askRead_5 : List UInt8 := [16, 19, 184, 0, 39, 154, 0, 7, 5, 167, 0, 13, 21, 5, 153, 0, 7, 3, 167, 0, 4, 6]
abbrev dktX6_askRead_5 : List UInt8 := dkwX6_askRead_5 ++ dktX6_askRead_6
def dkwX6_askRead_4 : List UInt8 := [182, 0, 226, 153, 0, 14, 21, 4, 16, 12, 162, 0, 7, 4, 167, 0, 4, 3, 54, 5, 42, 28, 3]
abbrev dktX6_askRead_4 : List UInt8 := dkwX6_askRead_4 ++ dktX6_askRead_5
def dkwX6_askRead_3 : List UInt8 := [54, 4, 167, 255, 214, 45, 180, 0, 77, 153, 0, 30, 45, 180, 0, 123, 16, 108, 160, 0, 21, 45]
abbrev dktX6_askRead_3 : List UInt8 := dkwX6_askRead_3 ++ dktX6_askRead_4
def dkwX6_askRead_2 : List UInt8 := [192, 0, 245, 58, 6, 21, 4, 25, 6, 180, 0, 247, 16, 119, 160, 0, 7, 4, 167, 0, 4, 3, 96]
abbrev dktX6_askRead_2 : List UInt8 := dkwX6_askRead_2 ++ dktX6_askRead_3
def dkwX6_askRead_1 : List UInt8 := [182, 0, 169, 58, 5, 25, 5, 185, 0, 173, 1, 0, 153, 0, 38, 25, 5, 185, 0, 178, 1, 0]
abbrev dktX6_askRead_1 : List UInt8 := dkwX6_askRead_1 ++ dktX6_askRead_2
def dkwX6_askRead_0 : List UInt8 := [42, 27, 182, 0, 74, 153, 0, 5, 3, 172, 42, 180, 0, 15, 27, 50, 78, 3, 54, 4, 42, 180, 0, 26]
abbrev dktX6_askRead_0 : List UInt8 := dkwX6_askRead_0 ++ dktX6_askRead_1
theorem dksX6_askRead_0 : cX6_askRead.data.toList.drop 0 = dktX6_askRead_0 := by decide +kernel
theorem dksX6_askRead_1 : cX6_askRead.data.toList.drop 24 = dktX6_askRead_1 := dk_seg dksX6_askRead_0 24 rfl rfl
theorem dksX6_askRead_2 : cX6_askRead.data.toList.drop 46 = dktX6_askRead_2 := dk_seg dksX6_askRead_1 22 rfl rfl
theorem dksX6_askRead_3 : cX6_askRead.data.toList.drop 69 = dktX6_askRead_3 := dk_seg dksX6_askRead_2 23 rfl rfl
theorem dksX6_askRead_4 : cX6_askRead.data.toList.drop 91 = dktX6_askRead_4 := dk_seg dksX6_askRead_3 22 rfl rfl
theorem dksX6_askRead_5 : cX6_askRead.data.toList.drop 114 = dktX6_askRead_5 := dk_seg dksX6_askRead_4 23 rfl rfl
theorem dksX6_askRead_6 : cX6_askRead.data.toList.drop 136 = dktX6_askRead_6 := dk_seg dksX6_askRead_5 22 rfl rfl
theorem dksX6_askRead_7 : cX6_askRead.data.toList.drop 158 = dktX6_askRead_7 := dk_seg dksX6_askRead_6 22 rfl rfl
theorem dksX6_askRead_8 : cX6_askRead.data.toList.drop 182 = dktX6_askRead_8 := dk_seg dksX6_askRead_7 24 rfl rfl
theorem dX6_askRead_0 : decode cX6_askRead 0 = .ok (.aload_n 0, 1) := dk_42 (dk_at dksX6_askRead_0 0 rfl rfl)
theorem dX6_askRead_1 : decode cX6_askRead 1 = .ok (.iload_n 1, 1) := dk_27 (dk_at dksX6_askRead_0 1 rfl rfl)
theorem dX6_askRead_2 : decode cX6_askRead 2 = .ok (.invokevirtual 74, 3) := dk_182 0 74 (dk_at dksX6_askRead_0 2 rfl rfl)
theorem dX6_askRead_5 : decode cX6_askRead 5 = .ok (.ifCond .eq 5, 3) := dk_153 0 5 (dk_at dksX6_askRead_0 5 rfl rfl)
theorem dX6_askRead_8 : decode cX6_askRead 8 = .ok (.iconst 0, 1) := dk_3 (dk_at dksX6_askRead_0 8 rfl rfl)
theorem dX6_askRead_9 : decode cX6_askRead 9 = .ok (.ireturn, 1) := dk_172 (dk_at dksX6_askRead_0 9 rfl rfl)
theorem dX6_askRead_10 : decode cX6_askRead 10 = .ok (.aload_n 0, 1) := dk_42 (dk_at dksX6_askRead_0 10 rfl rfl)
theorem dX6_askRead_11 : decode cX6_askRead 11 = .ok (.getfield 15, 3) := dk_180 0 15 (dk_at dksX6_askRead_0 11 rfl rfl)
theorem dX6_askRead_14 : decode cX6_askRead 14 = .ok (.iload_n 1, 1) := dk_27 (dk_at dksX6_askRead_0 14 rfl rfl)
theorem dX6_askRead_15 : decode cX6_askRead 15 = .ok (.aaload, 1) := dk_50 (dk_at dksX6_askRead_0 15 rfl rfl)
theorem dX6_askRead_16 : decode cX6_askRead 16 = .ok (.astore_n 3, 1) := dk_78 (dk_at dksX6_askRead_0 16 rfl rfl)
theorem dX6_askRead_17 : decode cX6_askRead 17 = .ok (.iconst 0, 1) := dk_3 (dk_at dksX6_askRead_0 17 rfl rfl)
theorem dX6_askRead_18 : decode cX6_askRead 18 = .ok (.istore 4, 2) := dk_54 4 (dk_at dksX6_askRead_0 18 rfl rfl)
theorem dX6_askRead_20 : decode cX6_askRead 20 = .ok (.aload_n 0, 1) := dk_42 (dk_at dksX6_askRead_0 20 rfl rfl)
theorem dX6_askRead_21 : decode cX6_askRead 21 = .ok (.getfield 26, 3) := dk_180 0 26 (dk_at dksX6_askRead_0 21 rfl rfl)
theorem dX6_askRead_24 : decode cX6_askRead 24 = .ok (.invokevirtual 169, 3) := dk_182 0 169 (dk_at dksX6_askRead_1 0 rfl rfl)
theorem dX6_askRead_27 : decode cX6_askRead 27 = .ok (.astore 5, 2) := dk_58 5 (dk_at dksX6_askRead_1 3 rfl rfl)
theorem dX6_askRead_29 : decode cX6_askRead 29 = .ok (.aload 5, 2) := dk_25 5 (dk_at dksX6_askRead_1 5 rfl rfl)
theorem dX6_askRead_31 : decode cX6_askRead 31 = .ok (.invokeinterface 173 1, 5) := by decide +kernel
theorem dX6_askRead_36 : decode cX6_askRead 36 = .ok (.ifCond .eq 38, 3) := dk_153 0 38 (dk_at dksX6_askRead_1 12 rfl rfl)
theorem dX6_askRead_39 : decode cX6_askRead 39 = .ok (.aload 5, 2) := dk_25 5 (dk_at dksX6_askRead_1 15 rfl rfl)
theorem dX6_askRead_41 : decode cX6_askRead 41 = .ok (.invokeinterface 178 1, 5) := by decide +kernel
theorem dX6_askRead_46 : decode cX6_askRead 46 = .ok (.checkcast 245, 3) := dk_192 0 245 (dk_at dksX6_askRead_2 0 rfl rfl)
theorem dX6_askRead_49 : decode cX6_askRead 49 = .ok (.astore 6, 2) := dk_58 6 (dk_at dksX6_askRead_2 3 rfl rfl)
theorem dX6_askRead_51 : decode cX6_askRead 51 = .ok (.iload 4, 2) := dk_21 4 (dk_at dksX6_askRead_2 5 rfl rfl)
theorem dX6_askRead_53 : decode cX6_askRead 53 = .ok (.aload 6, 2) := dk_25 6 (dk_at dksX6_askRead_2 7 rfl rfl)
theorem dX6_askRead_55 : decode cX6_askRead 55 = .ok (.getfield 247, 3) := dk_180 0 247 (dk_at dksX6_askRead_2 9 rfl rfl)
theorem dX6_askRead_58 : decode cX6_askRead 58 = .ok (.bipush 119, 2) := dk_16 119 (dk_at dksX6_askRead_2 12 rfl rfl)
theorem dX6_askRead_60 : decode cX6_askRead 60 = .ok (.if_icmp .ne 7, 3) := dk_160 0 7 (dk_at dksX6_askRead_2 14 rfl rfl)
theorem dX6_askRead_63 : decode cX6_askRead 63 = .ok (.iconst 1, 1) := dk_4 (dk_at dksX6_askRead_2 17 rfl rfl)
theorem dX6_askRead_64 : decode cX6_askRead 64 = .ok (.goto 4, 3) := dk_167 0 4 (dk_at dksX6_askRead_2 18 rfl rfl)
theorem dX6_askRead_67 : decode cX6_askRead 67 = .ok (.iconst 0, 1) := dk_3 (dk_at dksX6_askRead_2 21 rfl rfl)
theorem dX6_askRead_68 : decode cX6_askRead 68 = .ok (.iadd, 1) := dk_96 (dk_at dksX6_askRead_2 22 rfl rfl)
theorem dX6_askRead_69 : decode cX6_askRead 69 = .ok (.istore 4, 2) := dk_54 4 (dk_at dksX6_askRead_3 0 rfl rfl)
theorem dX6_askRead_71 : decode cX6_askRead 71 = .ok (.goto (-42), 3) := dk_167 255 214 (dk_at dksX6_askRead_3 2 rfl rfl)
theorem dX6_askRead_74 : decode cX6_askRead 74 = .ok (.aload_n 3, 1) := dk_45 (dk_at dksX6_askRead_3 5 rfl rfl)
theorem dX6_askRead_75 : decode cX6_askRead 75 = .ok (.getfield 77, 3) := dk_180 0 77 (dk_at dksX6_askRead_3 6 rfl rfl)
theorem dX6_askRead_78 : decode cX6_askRead 78 = .ok (.ifCond .eq 30, 3) := dk_153 0 30 (dk_at dksX6_askRead_3 9 rfl rfl)
theorem dX6_askRead_81 : decode cX6_askRead 81 = .ok (.aload_n 3, 1) := dk_45 (dk_at dksX6_askRead_3 12 rfl rfl)
theorem dX6_askRead_82 : decode cX6_askRead 82 = .ok (.getfield 123, 3) := dk_180 0 123 (dk_at dksX6_askRead_3 13 rfl rfl)
theorem dX6_askRead_85 : decode cX6_askRead 85 = .ok (.bipush 108, 2) := dk_16 108 (dk_at dksX6_askRead_3 16 rfl rfl)
theorem dX6_askRead_87 : decode cX6_askRead 87 = .ok (.if_icmp .ne 21, 3) := dk_160 0 21 (dk_at dksX6_askRead_3 18 rfl rfl)
theorem dX6_askRead_90 : decode cX6_askRead 90 = .ok (.aload_n 3, 1) := dk_45 (dk_at dksX6_askRead_3 21 rfl rfl)
theorem dX6_askRead_91 : decode cX6_askRead 91 = .ok (.invokevirtual 226, 3) := dk_182 0 226 (dk_at dksX6_askRead_4 0 rfl rfl)
theorem dX6_askRead_94 : decode cX6_askRead 94 = .ok (.ifCond .eq 14, 3) := dk_153 0 14 (dk_at dksX6_askRead_4 3 rfl rfl)
theorem dX6_askRead_97 : decode cX6_askRead 97 = .ok (.iload 4, 2) := dk_21 4 (dk_at dksX6_askRead_4 6 rfl rfl)
theorem dX6_askRead_99 : decode cX6_askRead 99 = .ok (.bipush 12, 2) := dk_16 12 (dk_at dksX6_askRead_4 8 rfl rfl)
theorem dX6_askRead_101 : decode cX6_askRead 101 = .ok (.if_icmp .ge 7, 3) := dk_162 0 7 (dk_at dksX6_askRead_4 10 rfl rfl)
theorem dX6_askRead_104 : decode cX6_askRead 104 = .ok (.iconst 1, 1) := dk_4 (dk_at dksX6_askRead_4 13 rfl rfl)
theorem dX6_askRead_105 : decode cX6_askRead 105 = .ok (.goto 4, 3) := dk_167 0 4 (dk_at dksX6_askRead_4 14 rfl rfl)
theorem dX6_askRead_108 : decode cX6_askRead 108 = .ok (.iconst 0, 1) := dk_3 (dk_at dksX6_askRead_4 17 rfl rfl)
theorem dX6_askRead_109 : decode cX6_askRead 109 = .ok (.istore 5, 2) := dk_54 5 (dk_at dksX6_askRead_4 18 rfl rfl)
theorem dX6_askRead_111 : decode cX6_askRead 111 = .ok (.aload_n 0, 1) := dk_42 (dk_at dksX6_askRead_4 20 rfl rfl)
theorem dX6_askRead_112 : decode cX6_askRead 112 = .ok (.iload_n 2, 1) := dk_28 (dk_at dksX6_askRead_4 21 rfl rfl)
theorem dX6_askRead_113 : decode cX6_askRead 113 = .ok (.iconst 0, 1) := dk_3 (dk_at dksX6_askRead_4 22 rfl rfl)
theorem dX6_askRead_114 : decode cX6_askRead 114 = .ok (.bipush 19, 2) := dk_16 19 (dk_at dksX6_askRead_5 0 rfl rfl)
theorem dX6_askRead_116 : decode cX6_askRead 116 = .ok (.invokestatic 39, 3) := dk_184 0 39 (dk_at dksX6_askRead_5 2 rfl rfl)
theorem dX6_askRead_119 : decode cX6_askRead 119 = .ok (.ifCond .ne 7, 3) := dk_154 0 7 (dk_at dksX6_askRead_5 5 rfl rfl)
theorem dX6_askRead_122 : decode cX6_askRead 122 = .ok (.iconst 2, 1) := dk_5 (dk_at dksX6_askRead_5 8 rfl rfl)
theorem dX6_askRead_123 : decode cX6_askRead 123 = .ok (.goto 13, 3) := dk_167 0 13 (dk_at dksX6_askRead_5 9 rfl rfl)
theorem dX6_askRead_126 : decode cX6_askRead 126 = .ok (.iload 5, 2) := dk_21 5 (dk_at dksX6_askRead_5 12 rfl rfl)
theorem dX6_askRead_128 : decode cX6_askRead 128 = .ok (.ifCond .eq 7, 3) := dk_153 0 7 (dk_at dksX6_askRead_5 14 rfl rfl)
theorem dX6_askRead_131 : decode cX6_askRead 131 = .ok (.iconst 0, 1) := dk_3 (dk_at dksX6_askRead_5 17 rfl rfl)
theorem dX6_askRead_132 : decode cX6_askRead 132 = .ok (.goto 4, 3) := dk_167 0 4 (dk_at dksX6_askRead_5 18 rfl rfl)
theorem dX6_askRead_135 : decode cX6_askRead 135 = .ok (.iconst 3, 1) := dk_6 (dk_at dksX6_askRead_5 21 rfl rfl)
theorem dX6_askRead_136 : decode cX6_askRead 136 = .ok (.invokevirtual 43, 3) := dk_182 0 43 (dk_at dksX6_askRead_6 0 rfl rfl)
theorem dX6_askRead_139 : decode cX6_askRead 139 = .ok (.ifCond .eq 5, 3) := dk_153 0 5 (dk_at dksX6_askRead_6 3 rfl rfl)
theorem dX6_askRead_142 : decode cX6_askRead 142 = .ok (.iconst 0, 1) := dk_3 (dk_at dksX6_askRead_6 6 rfl rfl)
theorem dX6_askRead_143 : decode cX6_askRead 143 = .ok (.ireturn, 1) := dk_172 (dk_at dksX6_askRead_6 7 rfl rfl)
theorem dX6_askRead_144 : decode cX6_askRead 144 = .ok (.aload_n 3, 1) := dk_45 (dk_at dksX6_askRead_6 8 rfl rfl)
theorem dX6_askRead_145 : decode cX6_askRead 145 = .ok (.invokevirtual 209, 3) := dk_182 0 209 (dk_at dksX6_askRead_6 9 rfl rfl)
theorem dX6_askRead_148 : decode cX6_askRead 148 = .ok (.aload_n 0, 1) := dk_42 (dk_at dksX6_askRead_6 12 rfl rfl)
theorem dX6_askRead_149 : decode cX6_askRead 149 = .ok (.getfield 26, 3) := dk_180 0 26 (dk_at dksX6_askRead_6 13 rfl rfl)
theorem dX6_askRead_152 : decode cX6_askRead 152 = .ok (.new 245, 3) := dk_187 0 245 (dk_at dksX6_askRead_6 16 rfl rfl)
theorem dX6_askRead_155 : decode cX6_askRead 155 = .ok (.dup, 1) := dk_89 (dk_at dksX6_askRead_6 19 rfl rfl)
theorem dX6_askRead_156 : decode cX6_askRead 156 = .ok (.iload_n 1, 1) := dk_27 (dk_at dksX6_askRead_6 20 rfl rfl)
theorem dX6_askRead_157 : decode cX6_askRead 157 = .ok (.aload_n 3, 1) := dk_45 (dk_at dksX6_askRead_6 21 rfl rfl)
theorem dX6_askRead_158 : decode cX6_askRead 158 = .ok (.getfield 127, 3) := dk_180 0 127 (dk_at dksX6_askRead_7 0 rfl rfl)
theorem dX6_askRead_161 : decode cX6_askRead 161 = .ok (.iload_n 2, 1) := dk_28 (dk_at dksX6_askRead_7 3 rfl rfl)
theorem dX6_askRead_162 : decode cX6_askRead 162 = .ok (.aload_n 3, 1) := dk_45 (dk_at dksX6_askRead_7 4 rfl rfl)
theorem dX6_askRead_163 : decode cX6_askRead 163 = .ok (.getfield 250, 3) := dk_180 0 250 (dk_at dksX6_askRead_7 5 rfl rfl)
theorem dX6_askRead_166 : decode cX6_askRead 166 = .ok (.invokevirtual 47, 3) := dk_182 0 47 (dk_at dksX6_askRead_7 8 rfl rfl)
theorem dX6_askRead_169 : decode cX6_askRead 169 = .ok (.invokespecial 253, 3) := dk_183 0 253 (dk_at dksX6_askRead_7 11 rfl rfl)
theorem dX6_askRead_172 : decode cX6_askRead 172 = .ok (.invokevirtual 51, 3) := dk_182 0 51 (dk_at dksX6_askRead_7 14 rfl rfl)
theorem dX6_askRead_175 : decode cX6_askRead 175 = .ok (.istore 6, 2) := dk_54 6 (dk_at dksX6_askRead_7 17 rfl rfl)
theorem dX6_askRead_177 : decode cX6_askRead 177 = .ok (.aload_n 3, 1) := dk_45 (dk_at dksX6_askRead_7 19 rfl rfl)
theorem dX6_askRead_178 : decode cX6_askRead 178 = .ok (.invokevirtual 256, 3) := dk_182 1 0 (dk_at dksX6_askRead_7 20 rfl rfl)
theorem dX6_askRead_181 : decode cX6_askRead 181 = .ok (.aload_n 0, 1) := dk_42 (dk_at dksX6_askRead_7 23 rfl rfl)
theorem dX6_askRead_182 : decode cX6_askRead 182 = .ok (.getfield 26, 3) := dk_180 0 26 (dk_at dksX6_askRead_8 0 rfl rfl)
theorem dX6_askRead_185 : decode cX6_askRead 185 = .ok (.invokevirtual 47, 3) := dk_182 0 47 (dk_at dksX6_askRead_8 3 rfl rfl)
theorem dX6_askRead_188 : decode cX6_askRead 188 = .ok (.iconst 1, 1) := dk_4 (dk_at dksX6_askRead_8 6 rfl rfl)
theorem dX6_askRead_189 : decode cX6_askRead 189 = .ok (.isub, 1) := dk_100 (dk_at dksX6_askRead_8 7 rfl rfl)
theorem dX6_askRead_190 : decode cX6_askRead 190 = .ok (.ireturn, 1) := dk_172 (dk_at dksX6_askRead_8 8 rfl rfl)
abbrev cX6_readState : ByteArray := prog_19_method_45_code
def yX6_readState : MethodName := ⟨RX6, "readState", "(I)C"⟩
def dkwX6_readState_2 : List UInt8 := [172]
abbrev dktX6_readState_2 : List UInt8 := dkwX6_readState_2 ++ []
def dkwX6_readState_1 : List UInt8 := [182, 0, 43, 153, 0, 7, 3, 167, 0, 17, 42, 180, 0, 26, 27, 182, 0, 163, 192, 0, 245, 180, 0, 247]
abbrev dktX6_readState_1 : List UInt8 := dkwX6_readState_1 ++ dktX6_readState_2
def dkwX6_readState_0 : List UInt8 := [42, 27, 3, 42, 180, 0, 26, 182, 0, 47, 4, 100, 184, 0, 39, 153, 0, 7, 3, 167, 0, 4, 4]
abbrev dktX6_readState_0 : List UInt8 := dkwX6_readState_0 ++ dktX6_readState_1
theorem dksX6_readState_0 : cX6_readState.data.toList.drop 0 = dktX6_readState_0 := by decide +kernel
theorem dksX6_readState_1 : cX6_readState.data.toList.drop 23 = dktX6_readState_1 := dk_seg dksX6_readState_0 23 rfl rfl
theorem dksX6_readState_2 : cX6_readState.data.toList.drop 47 = dktX6_readState_2 := dk_seg dksX6_readState_1 24 rfl rfl
theorem dX6_readState_0 : decode cX6_readState 0 = .ok (.aload_n 0, 1) := dk_42 (dk_at dksX6_readState_0 0 rfl rfl)
theorem dX6_readState_1 : decode cX6_readState 1 = .ok (.iload_n 1, 1) := dk_27 (dk_at dksX6_readState_0 1 rfl rfl)
theorem dX6_readState_2 : decode cX6_readState 2 = .ok (.iconst 0, 1) := dk_3 (dk_at dksX6_readState_0 2 rfl rfl)
theorem dX6_readState_3 : decode cX6_readState 3 = .ok (.aload_n 0, 1) := dk_42 (dk_at dksX6_readState_0 3 rfl rfl)
theorem dX6_readState_4 : decode cX6_readState 4 = .ok (.getfield 26, 3) := dk_180 0 26 (dk_at dksX6_readState_0 4 rfl rfl)
theorem dX6_readState_7 : decode cX6_readState 7 = .ok (.invokevirtual 47, 3) := dk_182 0 47 (dk_at dksX6_readState_0 7 rfl rfl)
theorem dX6_readState_10 : decode cX6_readState 10 = .ok (.iconst 1, 1) := dk_4 (dk_at dksX6_readState_0 10 rfl rfl)
theorem dX6_readState_11 : decode cX6_readState 11 = .ok (.isub, 1) := dk_100 (dk_at dksX6_readState_0 11 rfl rfl)
theorem dX6_readState_12 : decode cX6_readState 12 = .ok (.invokestatic 39, 3) := dk_184 0 39 (dk_at dksX6_readState_0 12 rfl rfl)
theorem dX6_readState_15 : decode cX6_readState 15 = .ok (.ifCond .eq 7, 3) := dk_153 0 7 (dk_at dksX6_readState_0 15 rfl rfl)
theorem dX6_readState_18 : decode cX6_readState 18 = .ok (.iconst 0, 1) := dk_3 (dk_at dksX6_readState_0 18 rfl rfl)
theorem dX6_readState_19 : decode cX6_readState 19 = .ok (.goto 4, 3) := dk_167 0 4 (dk_at dksX6_readState_0 19 rfl rfl)
theorem dX6_readState_22 : decode cX6_readState 22 = .ok (.iconst 1, 1) := dk_4 (dk_at dksX6_readState_0 22 rfl rfl)
theorem dX6_readState_23 : decode cX6_readState 23 = .ok (.invokevirtual 43, 3) := dk_182 0 43 (dk_at dksX6_readState_1 0 rfl rfl)
theorem dX6_readState_26 : decode cX6_readState 26 = .ok (.ifCond .eq 7, 3) := dk_153 0 7 (dk_at dksX6_readState_1 3 rfl rfl)
theorem dX6_readState_29 : decode cX6_readState 29 = .ok (.iconst 0, 1) := dk_3 (dk_at dksX6_readState_1 6 rfl rfl)
theorem dX6_readState_30 : decode cX6_readState 30 = .ok (.goto 17, 3) := dk_167 0 17 (dk_at dksX6_readState_1 7 rfl rfl)
theorem dX6_readState_33 : decode cX6_readState 33 = .ok (.aload_n 0, 1) := dk_42 (dk_at dksX6_readState_1 10 rfl rfl)
theorem dX6_readState_34 : decode cX6_readState 34 = .ok (.getfield 26, 3) := dk_180 0 26 (dk_at dksX6_readState_1 11 rfl rfl)
theorem dX6_readState_37 : decode cX6_readState 37 = .ok (.iload_n 1, 1) := dk_27 (dk_at dksX6_readState_1 14 rfl rfl)
theorem dX6_readState_38 : decode cX6_readState 38 = .ok (.invokevirtual 163, 3) := dk_182 0 163 (dk_at dksX6_readState_1 15 rfl rfl)
theorem dX6_readState_41 : decode cX6_readState 41 = .ok (.checkcast 245, 3) := dk_192 0 245 (dk_at dksX6_readState_1 18 rfl rfl)
theorem dX6_readState_44 : decode cX6_readState 44 = .ok (.getfield 247, 3) := dk_180 0 247 (dk_at dksX6_readState_1 21 rfl rfl)
theorem dX6_readState_47 : decode cX6_readState 47 = .ok (.ireturn, 1) := dk_172 (dk_at dksX6_readState_2 0 rfl rfl)
abbrev cX6_readValue : ByteArray := prog_19_method_46_code
def yX6_readValue : MethodName := ⟨RX6, "readValue", "(I)I"⟩
def dkwX6_readValue_3 : List UInt8 := [182, 0, 163, 192, 0, 245, 180, 1, 3, 172]
abbrev dktX6_readValue_3 : List UInt8 := dkwX6_readValue_3 ++ []
def dkwX6_readValue_2 : List UInt8 := [153, 0, 7, 3, 167, 0, 4, 4, 182, 0, 43, 153, 0, 7, 3, 167, 0, 17, 42, 180, 0, 26, 27]
abbrev dktX6_readValue_2 : List UInt8 := dkwX6_readValue_2 ++ dktX6_readValue_3
def dkwX6_readValue_1 : List UInt8 := [182, 0, 163, 192, 0, 245, 180, 0, 247, 16, 114, 160, 0, 7, 4, 167, 0, 4, 3, 61, 42, 28]
abbrev dktX6_readValue_1 : List UInt8 := dkwX6_readValue_1 ++ dktX6_readValue_2
def dkwX6_readValue_0 : List UInt8 := [27, 3, 42, 180, 0, 26, 182, 0, 47, 4, 100, 184, 0, 39, 153, 0, 26, 42, 180, 0, 26, 27]
abbrev dktX6_readValue_0 : List UInt8 := dkwX6_readValue_0 ++ dktX6_readValue_1
theorem dksX6_readValue_0 : cX6_readValue.data.toList.drop 0 = dktX6_readValue_0 := by decide +kernel
theorem dksX6_readValue_1 : cX6_readValue.data.toList.drop 22 = dktX6_readValue_1 := dk_seg dksX6_readValue_0 22 rfl rfl
theorem dksX6_readValue_2 : cX6_readValue.data.toList.drop 44 = dktX6_readValue_2 := dk_seg dksX6_readValue_1 22 rfl rfl
theorem dksX6_readValue_3 : cX6_readValue.data.toList.drop 67 = dktX6_readValue_3 := dk_seg dksX6_readValue_2 23 rfl rfl
theorem dX6_readValue_0 : decode cX6_readValue 0 = .ok (.iload_n 1, 1) := dk_27 (dk_at dksX6_readValue_0 0 rfl rfl)
theorem dX6_readValue_1 : decode cX6_readValue 1 = .ok (.iconst 0, 1) := dk_3 (dk_at dksX6_readValue_0 1 rfl rfl)
theorem dX6_readValue_2 : decode cX6_readValue 2 = .ok (.aload_n 0, 1) := dk_42 (dk_at dksX6_readValue_0 2 rfl rfl)
theorem dX6_readValue_3 : decode cX6_readValue 3 = .ok (.getfield 26, 3) := dk_180 0 26 (dk_at dksX6_readValue_0 3 rfl rfl)
theorem dX6_readValue_6 : decode cX6_readValue 6 = .ok (.invokevirtual 47, 3) := dk_182 0 47 (dk_at dksX6_readValue_0 6 rfl rfl)
theorem dX6_readValue_9 : decode cX6_readValue 9 = .ok (.iconst 1, 1) := dk_4 (dk_at dksX6_readValue_0 9 rfl rfl)
theorem dX6_readValue_10 : decode cX6_readValue 10 = .ok (.isub, 1) := dk_100 (dk_at dksX6_readValue_0 10 rfl rfl)
theorem dX6_readValue_11 : decode cX6_readValue 11 = .ok (.invokestatic 39, 3) := dk_184 0 39 (dk_at dksX6_readValue_0 11 rfl rfl)
theorem dX6_readValue_14 : decode cX6_readValue 14 = .ok (.ifCond .eq 26, 3) := dk_153 0 26 (dk_at dksX6_readValue_0 14 rfl rfl)
theorem dX6_readValue_17 : decode cX6_readValue 17 = .ok (.aload_n 0, 1) := dk_42 (dk_at dksX6_readValue_0 17 rfl rfl)
theorem dX6_readValue_18 : decode cX6_readValue 18 = .ok (.getfield 26, 3) := dk_180 0 26 (dk_at dksX6_readValue_0 18 rfl rfl)
theorem dX6_readValue_21 : decode cX6_readValue 21 = .ok (.iload_n 1, 1) := dk_27 (dk_at dksX6_readValue_0 21 rfl rfl)
theorem dX6_readValue_22 : decode cX6_readValue 22 = .ok (.invokevirtual 163, 3) := dk_182 0 163 (dk_at dksX6_readValue_1 0 rfl rfl)
theorem dX6_readValue_25 : decode cX6_readValue 25 = .ok (.checkcast 245, 3) := dk_192 0 245 (dk_at dksX6_readValue_1 3 rfl rfl)
theorem dX6_readValue_28 : decode cX6_readValue 28 = .ok (.getfield 247, 3) := dk_180 0 247 (dk_at dksX6_readValue_1 6 rfl rfl)
theorem dX6_readValue_31 : decode cX6_readValue 31 = .ok (.bipush 114, 2) := dk_16 114 (dk_at dksX6_readValue_1 9 rfl rfl)
theorem dX6_readValue_33 : decode cX6_readValue 33 = .ok (.if_icmp .ne 7, 3) := dk_160 0 7 (dk_at dksX6_readValue_1 11 rfl rfl)
theorem dX6_readValue_36 : decode cX6_readValue 36 = .ok (.iconst 1, 1) := dk_4 (dk_at dksX6_readValue_1 14 rfl rfl)
theorem dX6_readValue_37 : decode cX6_readValue 37 = .ok (.goto 4, 3) := dk_167 0 4 (dk_at dksX6_readValue_1 15 rfl rfl)
theorem dX6_readValue_40 : decode cX6_readValue 40 = .ok (.iconst 0, 1) := dk_3 (dk_at dksX6_readValue_1 18 rfl rfl)
theorem dX6_readValue_41 : decode cX6_readValue 41 = .ok (.istore_n 2, 1) := dk_61 (dk_at dksX6_readValue_1 19 rfl rfl)
theorem dX6_readValue_42 : decode cX6_readValue 42 = .ok (.aload_n 0, 1) := dk_42 (dk_at dksX6_readValue_1 20 rfl rfl)
theorem dX6_readValue_43 : decode cX6_readValue 43 = .ok (.iload_n 2, 1) := dk_28 (dk_at dksX6_readValue_1 21 rfl rfl)
theorem dX6_readValue_44 : decode cX6_readValue 44 = .ok (.ifCond .eq 7, 3) := dk_153 0 7 (dk_at dksX6_readValue_2 0 rfl rfl)
theorem dX6_readValue_47 : decode cX6_readValue 47 = .ok (.iconst 0, 1) := dk_3 (dk_at dksX6_readValue_2 3 rfl rfl)
theorem dX6_readValue_48 : decode cX6_readValue 48 = .ok (.goto 4, 3) := dk_167 0 4 (dk_at dksX6_readValue_2 4 rfl rfl)
theorem dX6_readValue_51 : decode cX6_readValue 51 = .ok (.iconst 1, 1) := dk_4 (dk_at dksX6_readValue_2 7 rfl rfl)
theorem dX6_readValue_52 : decode cX6_readValue 52 = .ok (.invokevirtual 43, 3) := dk_182 0 43 (dk_at dksX6_readValue_2 8 rfl rfl)
theorem dX6_readValue_55 : decode cX6_readValue 55 = .ok (.ifCond .eq 7, 3) := dk_153 0 7 (dk_at dksX6_readValue_2 11 rfl rfl)
theorem dX6_readValue_58 : decode cX6_readValue 58 = .ok (.iconst 0, 1) := dk_3 (dk_at dksX6_readValue_2 14 rfl rfl)
theorem dX6_readValue_59 : decode cX6_readValue 59 = .ok (.goto 17, 3) := dk_167 0 17 (dk_at dksX6_readValue_2 15 rfl rfl)
theorem dX6_readValue_62 : decode cX6_readValue 62 = .ok (.aload_n 0, 1) := dk_42 (dk_at dksX6_readValue_2 18 rfl rfl)
theorem dX6_readValue_63 : decode cX6_readValue 63 = .ok (.getfield 26, 3) := dk_180 0 26 (dk_at dksX6_readValue_2 19 rfl rfl)
theorem dX6_readValue_66 : decode cX6_readValue 66 = .ok (.iload_n 1, 1) := dk_27 (dk_at dksX6_readValue_2 22 rfl rfl)
theorem dX6_readValue_67 : decode cX6_readValue 67 = .ok (.invokevirtual 163, 3) := dk_182 0 163 (dk_at dksX6_readValue_3 0 rfl rfl)
theorem dX6_readValue_70 : decode cX6_readValue 70 = .ok (.checkcast 245, 3) := dk_192 0 245 (dk_at dksX6_readValue_3 3 rfl rfl)
theorem dX6_readValue_73 : decode cX6_readValue 73 = .ok (.getfield 259, 3) := dk_180 1 3 (dk_at dksX6_readValue_3 6 rfl rfl)
theorem dX6_readValue_76 : decode cX6_readValue 76 = .ok (.ireturn, 1) := dk_172 (dk_at dksX6_readValue_3 9 rfl rfl)
abbrev cX6_readStale : ByteArray := prog_19_method_48_code
def yX6_readStale : MethodName := ⟨RX6, "readStale", "(II)I"⟩
def dkwX6_readStale_1 : List UInt8 := [180, 0, 239, 28, 46, 172]
abbrev dktX6_readStale_1 : List UInt8 := dkwX6_readStale_1 ++ []
def dkwX6_readStale_0 : List UInt8 := [42, 27, 28, 182, 1, 6, 153, 0, 7, 3, 167, 0, 17, 42, 180, 0, 15, 27, 50, 180, 0, 235]
abbrev dktX6_readStale_0 : List UInt8 := dkwX6_readStale_0 ++ dktX6_readStale_1
theorem dksX6_readStale_0 : cX6_readStale.data.toList.drop 0 = dktX6_readStale_0 := by decide +kernel
theorem dksX6_readStale_1 : cX6_readStale.data.toList.drop 22 = dktX6_readStale_1 := dk_seg dksX6_readStale_0 22 rfl rfl
theorem dX6_readStale_0 : decode cX6_readStale 0 = .ok (.aload_n 0, 1) := dk_42 (dk_at dksX6_readStale_0 0 rfl rfl)
theorem dX6_readStale_1 : decode cX6_readStale 1 = .ok (.iload_n 1, 1) := dk_27 (dk_at dksX6_readStale_0 1 rfl rfl)
theorem dX6_readStale_2 : decode cX6_readStale 2 = .ok (.iload_n 2, 1) := dk_28 (dk_at dksX6_readStale_0 2 rfl rfl)
theorem dX6_readStale_3 : decode cX6_readStale 3 = .ok (.invokevirtual 262, 3) := dk_182 1 6 (dk_at dksX6_readStale_0 3 rfl rfl)
theorem dX6_readStale_6 : decode cX6_readStale 6 = .ok (.ifCond .eq 7, 3) := dk_153 0 7 (dk_at dksX6_readStale_0 6 rfl rfl)
theorem dX6_readStale_9 : decode cX6_readStale 9 = .ok (.iconst 0, 1) := dk_3 (dk_at dksX6_readStale_0 9 rfl rfl)
theorem dX6_readStale_10 : decode cX6_readStale 10 = .ok (.goto 17, 3) := dk_167 0 17 (dk_at dksX6_readStale_0 10 rfl rfl)
theorem dX6_readStale_13 : decode cX6_readStale 13 = .ok (.aload_n 0, 1) := dk_42 (dk_at dksX6_readStale_0 13 rfl rfl)
theorem dX6_readStale_14 : decode cX6_readStale 14 = .ok (.getfield 15, 3) := dk_180 0 15 (dk_at dksX6_readStale_0 14 rfl rfl)
theorem dX6_readStale_17 : decode cX6_readStale 17 = .ok (.iload_n 1, 1) := dk_27 (dk_at dksX6_readStale_0 17 rfl rfl)
theorem dX6_readStale_18 : decode cX6_readStale 18 = .ok (.aaload, 1) := dk_50 (dk_at dksX6_readStale_0 18 rfl rfl)
theorem dX6_readStale_19 : decode cX6_readStale 19 = .ok (.getfield 235, 3) := dk_180 0 235 (dk_at dksX6_readStale_0 19 rfl rfl)
theorem dX6_readStale_22 : decode cX6_readStale 22 = .ok (.getfield 239, 3) := dk_180 0 239 (dk_at dksX6_readStale_1 0 rfl rfl)
theorem dX6_readStale_25 : decode cX6_readStale 25 = .ok (.iload_n 2, 1) := dk_28 (dk_at dksX6_readStale_1 3 rfl rfl)
theorem dX6_readStale_26 : decode cX6_readStale 26 = .ok (.iaload, 1) := dk_46 (dk_at dksX6_readStale_1 4 rfl rfl)
theorem dX6_readStale_27 : decode cX6_readStale 27 = .ok (.ireturn, 1) := dk_172 (dk_at dksX6_readStale_1 5 rfl rfl)
abbrev cX6_failsKey : ByteArray := prog_19_method_47_code
def yX6_failsKey : MethodName := ⟨RX6, "failsKey", "(II)Z"⟩
def dkwX6_failsKey_2 : List UInt8 := [167, 0, 4, 3, 172]
abbrev dktX6_failsKey_2 : List UInt8 := dkwX6_failsKey_2 ++ []
def dkwX6_failsKey_1 : List UInt8 := [180, 0, 15, 27, 50, 180, 0, 77, 153, 0, 7, 3, 167, 0, 4, 6, 182, 0, 43, 153, 0, 7, 4]
abbrev dktX6_failsKey_1 : List UInt8 := dkwX6_failsKey_1 ++ dktX6_failsKey_2
def dkwX6_failsKey_0 : List UInt8 := [42, 27, 182, 0, 74, 154, 0, 41, 42, 28, 3, 16, 19, 184, 0, 39, 154, 0, 7, 5, 167, 0, 20, 42]
abbrev dktX6_failsKey_0 : List UInt8 := dkwX6_failsKey_0 ++ dktX6_failsKey_1
theorem dksX6_failsKey_0 : cX6_failsKey.data.toList.drop 0 = dktX6_failsKey_0 := by decide +kernel
theorem dksX6_failsKey_1 : cX6_failsKey.data.toList.drop 24 = dktX6_failsKey_1 := dk_seg dksX6_failsKey_0 24 rfl rfl
theorem dksX6_failsKey_2 : cX6_failsKey.data.toList.drop 47 = dktX6_failsKey_2 := dk_seg dksX6_failsKey_1 23 rfl rfl
theorem dX6_failsKey_0 : decode cX6_failsKey 0 = .ok (.aload_n 0, 1) := dk_42 (dk_at dksX6_failsKey_0 0 rfl rfl)
theorem dX6_failsKey_1 : decode cX6_failsKey 1 = .ok (.iload_n 1, 1) := dk_27 (dk_at dksX6_failsKey_0 1 rfl rfl)
theorem dX6_failsKey_2 : decode cX6_failsKey 2 = .ok (.invokevirtual 74, 3) := dk_182 0 74 (dk_at dksX6_failsKey_0 2 rfl rfl)
theorem dX6_failsKey_5 : decode cX6_failsKey 5 = .ok (.ifCond .ne 41, 3) := dk_154 0 41 (dk_at dksX6_failsKey_0 5 rfl rfl)
theorem dX6_failsKey_8 : decode cX6_failsKey 8 = .ok (.aload_n 0, 1) := dk_42 (dk_at dksX6_failsKey_0 8 rfl rfl)
theorem dX6_failsKey_9 : decode cX6_failsKey 9 = .ok (.iload_n 2, 1) := dk_28 (dk_at dksX6_failsKey_0 9 rfl rfl)
theorem dX6_failsKey_10 : decode cX6_failsKey 10 = .ok (.iconst 0, 1) := dk_3 (dk_at dksX6_failsKey_0 10 rfl rfl)
theorem dX6_failsKey_11 : decode cX6_failsKey 11 = .ok (.bipush 19, 2) := dk_16 19 (dk_at dksX6_failsKey_0 11 rfl rfl)
theorem dX6_failsKey_13 : decode cX6_failsKey 13 = .ok (.invokestatic 39, 3) := dk_184 0 39 (dk_at dksX6_failsKey_0 13 rfl rfl)
theorem dX6_failsKey_16 : decode cX6_failsKey 16 = .ok (.ifCond .ne 7, 3) := dk_154 0 7 (dk_at dksX6_failsKey_0 16 rfl rfl)
theorem dX6_failsKey_19 : decode cX6_failsKey 19 = .ok (.iconst 2, 1) := dk_5 (dk_at dksX6_failsKey_0 19 rfl rfl)
theorem dX6_failsKey_20 : decode cX6_failsKey 20 = .ok (.goto 20, 3) := dk_167 0 20 (dk_at dksX6_failsKey_0 20 rfl rfl)
theorem dX6_failsKey_23 : decode cX6_failsKey 23 = .ok (.aload_n 0, 1) := dk_42 (dk_at dksX6_failsKey_0 23 rfl rfl)
theorem dX6_failsKey_24 : decode cX6_failsKey 24 = .ok (.getfield 15, 3) := dk_180 0 15 (dk_at dksX6_failsKey_1 0 rfl rfl)
theorem dX6_failsKey_27 : decode cX6_failsKey 27 = .ok (.iload_n 1, 1) := dk_27 (dk_at dksX6_failsKey_1 3 rfl rfl)
theorem dX6_failsKey_28 : decode cX6_failsKey 28 = .ok (.aaload, 1) := dk_50 (dk_at dksX6_failsKey_1 4 rfl rfl)
theorem dX6_failsKey_29 : decode cX6_failsKey 29 = .ok (.getfield 77, 3) := dk_180 0 77 (dk_at dksX6_failsKey_1 5 rfl rfl)
theorem dX6_failsKey_32 : decode cX6_failsKey 32 = .ok (.ifCond .eq 7, 3) := dk_153 0 7 (dk_at dksX6_failsKey_1 8 rfl rfl)
theorem dX6_failsKey_35 : decode cX6_failsKey 35 = .ok (.iconst 0, 1) := dk_3 (dk_at dksX6_failsKey_1 11 rfl rfl)
theorem dX6_failsKey_36 : decode cX6_failsKey 36 = .ok (.goto 4, 3) := dk_167 0 4 (dk_at dksX6_failsKey_1 12 rfl rfl)
theorem dX6_failsKey_39 : decode cX6_failsKey 39 = .ok (.iconst 3, 1) := dk_6 (dk_at dksX6_failsKey_1 15 rfl rfl)
theorem dX6_failsKey_40 : decode cX6_failsKey 40 = .ok (.invokevirtual 43, 3) := dk_182 0 43 (dk_at dksX6_failsKey_1 16 rfl rfl)
theorem dX6_failsKey_43 : decode cX6_failsKey 43 = .ok (.ifCond .eq 7, 3) := dk_153 0 7 (dk_at dksX6_failsKey_1 19 rfl rfl)
theorem dX6_failsKey_46 : decode cX6_failsKey 46 = .ok (.iconst 1, 1) := dk_4 (dk_at dksX6_failsKey_1 22 rfl rfl)
theorem dX6_failsKey_47 : decode cX6_failsKey 47 = .ok (.goto 4, 3) := dk_167 0 4 (dk_at dksX6_failsKey_2 0 rfl rfl)
theorem dX6_failsKey_50 : decode cX6_failsKey 50 = .ok (.iconst 0, 1) := dk_3 (dk_at dksX6_failsKey_2 3 rfl rfl)
theorem dX6_failsKey_51 : decode cX6_failsKey 51 = .ok (.ireturn, 1) := dk_172 (dk_at dksX6_failsKey_2 4 rfl rfl)
abbrev cX6_rangeOf : ByteArray := prog_19_method_49_code
def yX6_rangeOf : MethodName := ⟨RX6, "rangeOf", "(II)I"⟩
def dkwX6_rangeOf_1 : List UInt8 := [182, 1, 9, 172]
abbrev dktX6_rangeOf_1 : List UInt8 := dkwX6_rangeOf_1 ++ []
def dkwX6_rangeOf_0 : List UInt8 := [42, 27, 28, 182, 1, 6, 153, 0, 7, 3, 167, 0, 16, 42, 180, 0, 15, 27, 50, 180, 0, 235, 28]
abbrev dktX6_rangeOf_0 : List UInt8 := dkwX6_rangeOf_0 ++ dktX6_rangeOf_1
theorem dksX6_rangeOf_0 : cX6_rangeOf.data.toList.drop 0 = dktX6_rangeOf_0 := by decide +kernel
theorem dksX6_rangeOf_1 : cX6_rangeOf.data.toList.drop 23 = dktX6_rangeOf_1 := dk_seg dksX6_rangeOf_0 23 rfl rfl
theorem dX6_rangeOf_0 : decode cX6_rangeOf 0 = .ok (.aload_n 0, 1) := dk_42 (dk_at dksX6_rangeOf_0 0 rfl rfl)
theorem dX6_rangeOf_1 : decode cX6_rangeOf 1 = .ok (.iload_n 1, 1) := dk_27 (dk_at dksX6_rangeOf_0 1 rfl rfl)
theorem dX6_rangeOf_2 : decode cX6_rangeOf 2 = .ok (.iload_n 2, 1) := dk_28 (dk_at dksX6_rangeOf_0 2 rfl rfl)
theorem dX6_rangeOf_3 : decode cX6_rangeOf 3 = .ok (.invokevirtual 262, 3) := dk_182 1 6 (dk_at dksX6_rangeOf_0 3 rfl rfl)
theorem dX6_rangeOf_6 : decode cX6_rangeOf 6 = .ok (.ifCond .eq 7, 3) := dk_153 0 7 (dk_at dksX6_rangeOf_0 6 rfl rfl)
theorem dX6_rangeOf_9 : decode cX6_rangeOf 9 = .ok (.iconst 0, 1) := dk_3 (dk_at dksX6_rangeOf_0 9 rfl rfl)
theorem dX6_rangeOf_10 : decode cX6_rangeOf 10 = .ok (.goto 16, 3) := dk_167 0 16 (dk_at dksX6_rangeOf_0 10 rfl rfl)
theorem dX6_rangeOf_13 : decode cX6_rangeOf 13 = .ok (.aload_n 0, 1) := dk_42 (dk_at dksX6_rangeOf_0 13 rfl rfl)
theorem dX6_rangeOf_14 : decode cX6_rangeOf 14 = .ok (.getfield 15, 3) := dk_180 0 15 (dk_at dksX6_rangeOf_0 14 rfl rfl)
theorem dX6_rangeOf_17 : decode cX6_rangeOf 17 = .ok (.iload_n 1, 1) := dk_27 (dk_at dksX6_rangeOf_0 17 rfl rfl)
theorem dX6_rangeOf_18 : decode cX6_rangeOf 18 = .ok (.aaload, 1) := dk_50 (dk_at dksX6_rangeOf_0 18 rfl rfl)
theorem dX6_rangeOf_19 : decode cX6_rangeOf 19 = .ok (.getfield 235, 3) := dk_180 0 235 (dk_at dksX6_rangeOf_0 19 rfl rfl)
theorem dX6_rangeOf_22 : decode cX6_rangeOf 22 = .ok (.iload_n 2, 1) := dk_28 (dk_at dksX6_rangeOf_0 22 rfl rfl)
theorem dX6_rangeOf_23 : decode cX6_rangeOf 23 = .ok (.invokevirtual 265, 3) := dk_182 1 9 (dk_at dksX6_rangeOf_1 0 rfl rfl)
theorem dX6_rangeOf_26 : decode cX6_rangeOf 26 = .ok (.ireturn, 1) := dk_172 (dk_at dksX6_rangeOf_1 3 rfl rfl)
abbrev cX6_load : ByteArray := prog_19_method_50_code
def yX6_load : MethodName := ⟨RX6, "load", "(II)I"⟩
def dkwX6_load_1 : List UInt8 := [180, 1, 12, 42, 180, 0, 15, 27, 50, 180, 0, 235, 28, 182, 1, 9, 46, 172]
abbrev dktX6_load_1 : List UInt8 := dkwX6_load_1 ++ []
def dkwX6_load_0 : List UInt8 := [42, 27, 28, 182, 1, 6, 153, 0, 7, 3, 167, 0, 29, 42, 180, 0, 15, 27, 50, 180, 0, 235]
abbrev dktX6_load_0 : List UInt8 := dkwX6_load_0 ++ dktX6_load_1
theorem dksX6_load_0 : cX6_load.data.toList.drop 0 = dktX6_load_0 := by decide +kernel
theorem dksX6_load_1 : cX6_load.data.toList.drop 22 = dktX6_load_1 := dk_seg dksX6_load_0 22 rfl rfl
theorem dX6_load_0 : decode cX6_load 0 = .ok (.aload_n 0, 1) := dk_42 (dk_at dksX6_load_0 0 rfl rfl)
theorem dX6_load_1 : decode cX6_load 1 = .ok (.iload_n 1, 1) := dk_27 (dk_at dksX6_load_0 1 rfl rfl)
theorem dX6_load_2 : decode cX6_load 2 = .ok (.iload_n 2, 1) := dk_28 (dk_at dksX6_load_0 2 rfl rfl)
theorem dX6_load_3 : decode cX6_load 3 = .ok (.invokevirtual 262, 3) := dk_182 1 6 (dk_at dksX6_load_0 3 rfl rfl)
theorem dX6_load_6 : decode cX6_load 6 = .ok (.ifCond .eq 7, 3) := dk_153 0 7 (dk_at dksX6_load_0 6 rfl rfl)
theorem dX6_load_9 : decode cX6_load 9 = .ok (.iconst 0, 1) := dk_3 (dk_at dksX6_load_0 9 rfl rfl)
theorem dX6_load_10 : decode cX6_load 10 = .ok (.goto 29, 3) := dk_167 0 29 (dk_at dksX6_load_0 10 rfl rfl)
theorem dX6_load_13 : decode cX6_load 13 = .ok (.aload_n 0, 1) := dk_42 (dk_at dksX6_load_0 13 rfl rfl)
theorem dX6_load_14 : decode cX6_load 14 = .ok (.getfield 15, 3) := dk_180 0 15 (dk_at dksX6_load_0 14 rfl rfl)
theorem dX6_load_17 : decode cX6_load 17 = .ok (.iload_n 1, 1) := dk_27 (dk_at dksX6_load_0 17 rfl rfl)
theorem dX6_load_18 : decode cX6_load 18 = .ok (.aaload, 1) := dk_50 (dk_at dksX6_load_0 18 rfl rfl)
theorem dX6_load_19 : decode cX6_load 19 = .ok (.getfield 235, 3) := dk_180 0 235 (dk_at dksX6_load_0 19 rfl rfl)
theorem dX6_load_22 : decode cX6_load 22 = .ok (.getfield 268, 3) := dk_180 1 12 (dk_at dksX6_load_1 0 rfl rfl)
theorem dX6_load_25 : decode cX6_load 25 = .ok (.aload_n 0, 1) := dk_42 (dk_at dksX6_load_1 3 rfl rfl)
theorem dX6_load_26 : decode cX6_load 26 = .ok (.getfield 15, 3) := dk_180 0 15 (dk_at dksX6_load_1 4 rfl rfl)
theorem dX6_load_29 : decode cX6_load 29 = .ok (.iload_n 1, 1) := dk_27 (dk_at dksX6_load_1 7 rfl rfl)
theorem dX6_load_30 : decode cX6_load 30 = .ok (.aaload, 1) := dk_50 (dk_at dksX6_load_1 8 rfl rfl)
theorem dX6_load_31 : decode cX6_load 31 = .ok (.getfield 235, 3) := dk_180 0 235 (dk_at dksX6_load_1 9 rfl rfl)
theorem dX6_load_34 : decode cX6_load 34 = .ok (.iload_n 2, 1) := dk_28 (dk_at dksX6_load_1 12 rfl rfl)
theorem dX6_load_35 : decode cX6_load 35 = .ok (.invokevirtual 265, 3) := dk_182 1 9 (dk_at dksX6_load_1 13 rfl rfl)
theorem dX6_load_38 : decode cX6_load 38 = .ok (.iaload, 1) := dk_46 (dk_at dksX6_load_1 16 rfl rfl)
theorem dX6_load_39 : decode cX6_load 39 = .ok (.ireturn, 1) := dk_172 (dk_at dksX6_load_1 17 rfl rfl)
abbrev cX6_history : ByteArray := prog_19_method_51_code
def yX6_history : MethodName := ⟨RX6, "history", "()I"⟩
def dkwX6_history_0 : List UInt8 := [42, 3, 181, 0, 32, 42, 180, 0, 29, 182, 0, 47, 172]
abbrev dktX6_history_0 : List UInt8 := dkwX6_history_0 ++ []
theorem dksX6_history_0 : cX6_history.data.toList.drop 0 = dktX6_history_0 := by decide +kernel
theorem dX6_history_0 : decode cX6_history 0 = .ok (.aload_n 0, 1) := dk_42 (dk_at dksX6_history_0 0 rfl rfl)
theorem dX6_history_1 : decode cX6_history 1 = .ok (.iconst 0, 1) := dk_3 (dk_at dksX6_history_0 1 rfl rfl)
theorem dX6_history_2 : decode cX6_history 2 = .ok (.putfield 32, 3) := dk_181 0 32 (dk_at dksX6_history_0 2 rfl rfl)
theorem dX6_history_5 : decode cX6_history 5 = .ok (.aload_n 0, 1) := dk_42 (dk_at dksX6_history_0 5 rfl rfl)
theorem dX6_history_6 : decode cX6_history 6 = .ok (.getfield 29, 3) := dk_180 0 29 (dk_at dksX6_history_0 6 rfl rfl)
theorem dX6_history_9 : decode cX6_history 9 = .ok (.invokevirtual 47, 3) := dk_182 0 47 (dk_at dksX6_history_0 9 rfl rfl)
theorem dX6_history_12 : decode cX6_history 12 = .ok (.ireturn, 1) := dk_172 (dk_at dksX6_history_0 12 rfl rfl)
abbrev cX6_valueByHistory : ByteArray := prog_19_method_52_code
def yX6_valueByHistory : MethodName := ⟨RX6, "valueByHistory", "(I)I"⟩
def dkwX6_valueByHistory_3 : List UInt8 := [180, 1, 15, 27, 160, 0, 11, 25, 4, 180, 1, 18, 167, 0, 4, 28, 61, 167, 255, 207, 28, 172]
abbrev dktX6_valueByHistory_3 : List UInt8 := dkwX6_valueByHistory_3 ++ []
def dkwX6_valueByHistory_2 : List UInt8 := [185, 0, 178, 1, 0, 192, 0, 154, 58, 4, 25, 4, 180, 0, 156, 16, 119, 160, 0, 20, 25, 4]
abbrev dktX6_valueByHistory_2 : List UInt8 := dkwX6_valueByHistory_2 ++ dktX6_valueByHistory_3
def dkwX6_valueByHistory_1 : List UInt8 := [3, 61, 42, 180, 0, 29, 182, 0, 169, 78, 45, 185, 0, 173, 1, 0, 153, 0, 46, 45]
abbrev dktX6_valueByHistory_1 : List UInt8 := dkwX6_valueByHistory_1 ++ dktX6_valueByHistory_2
def dkwX6_valueByHistory_0 : List UInt8 := [42, 27, 3, 16, 19, 184, 0, 39, 153, 0, 7, 3, 167, 0, 4, 4, 182, 0, 43, 153, 0, 5, 3, 172]
abbrev dktX6_valueByHistory_0 : List UInt8 := dkwX6_valueByHistory_0 ++ dktX6_valueByHistory_1
theorem dksX6_valueByHistory_0 : cX6_valueByHistory.data.toList.drop 0 = dktX6_valueByHistory_0 := by decide +kernel
theorem dksX6_valueByHistory_1 : cX6_valueByHistory.data.toList.drop 24 = dktX6_valueByHistory_1 := dk_seg dksX6_valueByHistory_0 24 rfl rfl
theorem dksX6_valueByHistory_2 : cX6_valueByHistory.data.toList.drop 44 = dktX6_valueByHistory_2 := dk_seg dksX6_valueByHistory_1 20 rfl rfl
theorem dksX6_valueByHistory_3 : cX6_valueByHistory.data.toList.drop 66 = dktX6_valueByHistory_3 := dk_seg dksX6_valueByHistory_2 22 rfl rfl
theorem dX6_valueByHistory_0 : decode cX6_valueByHistory 0 = .ok (.aload_n 0, 1) := dk_42 (dk_at dksX6_valueByHistory_0 0 rfl rfl)
theorem dX6_valueByHistory_1 : decode cX6_valueByHistory 1 = .ok (.iload_n 1, 1) := dk_27 (dk_at dksX6_valueByHistory_0 1 rfl rfl)
theorem dX6_valueByHistory_2 : decode cX6_valueByHistory 2 = .ok (.iconst 0, 1) := dk_3 (dk_at dksX6_valueByHistory_0 2 rfl rfl)
theorem dX6_valueByHistory_3 : decode cX6_valueByHistory 3 = .ok (.bipush 19, 2) := dk_16 19 (dk_at dksX6_valueByHistory_0 3 rfl rfl)
theorem dX6_valueByHistory_5 : decode cX6_valueByHistory 5 = .ok (.invokestatic 39, 3) := dk_184 0 39 (dk_at dksX6_valueByHistory_0 5 rfl rfl)
theorem dX6_valueByHistory_8 : decode cX6_valueByHistory 8 = .ok (.ifCond .eq 7, 3) := dk_153 0 7 (dk_at dksX6_valueByHistory_0 8 rfl rfl)
theorem dX6_valueByHistory_11 : decode cX6_valueByHistory 11 = .ok (.iconst 0, 1) := dk_3 (dk_at dksX6_valueByHistory_0 11 rfl rfl)
theorem dX6_valueByHistory_12 : decode cX6_valueByHistory 12 = .ok (.goto 4, 3) := dk_167 0 4 (dk_at dksX6_valueByHistory_0 12 rfl rfl)
theorem dX6_valueByHistory_15 : decode cX6_valueByHistory 15 = .ok (.iconst 1, 1) := dk_4 (dk_at dksX6_valueByHistory_0 15 rfl rfl)
theorem dX6_valueByHistory_16 : decode cX6_valueByHistory 16 = .ok (.invokevirtual 43, 3) := dk_182 0 43 (dk_at dksX6_valueByHistory_0 16 rfl rfl)
theorem dX6_valueByHistory_19 : decode cX6_valueByHistory 19 = .ok (.ifCond .eq 5, 3) := dk_153 0 5 (dk_at dksX6_valueByHistory_0 19 rfl rfl)
theorem dX6_valueByHistory_22 : decode cX6_valueByHistory 22 = .ok (.iconst 0, 1) := dk_3 (dk_at dksX6_valueByHistory_0 22 rfl rfl)
theorem dX6_valueByHistory_23 : decode cX6_valueByHistory 23 = .ok (.ireturn, 1) := dk_172 (dk_at dksX6_valueByHistory_0 23 rfl rfl)
theorem dX6_valueByHistory_24 : decode cX6_valueByHistory 24 = .ok (.iconst 0, 1) := dk_3 (dk_at dksX6_valueByHistory_1 0 rfl rfl)
theorem dX6_valueByHistory_25 : decode cX6_valueByHistory 25 = .ok (.istore_n 2, 1) := dk_61 (dk_at dksX6_valueByHistory_1 1 rfl rfl)
theorem dX6_valueByHistory_26 : decode cX6_valueByHistory 26 = .ok (.aload_n 0, 1) := dk_42 (dk_at dksX6_valueByHistory_1 2 rfl rfl)
theorem dX6_valueByHistory_27 : decode cX6_valueByHistory 27 = .ok (.getfield 29, 3) := dk_180 0 29 (dk_at dksX6_valueByHistory_1 3 rfl rfl)
theorem dX6_valueByHistory_30 : decode cX6_valueByHistory 30 = .ok (.invokevirtual 169, 3) := dk_182 0 169 (dk_at dksX6_valueByHistory_1 6 rfl rfl)
theorem dX6_valueByHistory_33 : decode cX6_valueByHistory 33 = .ok (.astore_n 3, 1) := dk_78 (dk_at dksX6_valueByHistory_1 9 rfl rfl)
theorem dX6_valueByHistory_34 : decode cX6_valueByHistory 34 = .ok (.aload_n 3, 1) := dk_45 (dk_at dksX6_valueByHistory_1 10 rfl rfl)
theorem dX6_valueByHistory_35 : decode cX6_valueByHistory 35 = .ok (.invokeinterface 173 1, 5) := by decide +kernel
theorem dX6_valueByHistory_40 : decode cX6_valueByHistory 40 = .ok (.ifCond .eq 46, 3) := dk_153 0 46 (dk_at dksX6_valueByHistory_1 16 rfl rfl)
theorem dX6_valueByHistory_43 : decode cX6_valueByHistory 43 = .ok (.aload_n 3, 1) := dk_45 (dk_at dksX6_valueByHistory_1 19 rfl rfl)
theorem dX6_valueByHistory_44 : decode cX6_valueByHistory 44 = .ok (.invokeinterface 178 1, 5) := by decide +kernel
theorem dX6_valueByHistory_49 : decode cX6_valueByHistory 49 = .ok (.checkcast 154, 3) := dk_192 0 154 (dk_at dksX6_valueByHistory_2 5 rfl rfl)
theorem dX6_valueByHistory_52 : decode cX6_valueByHistory 52 = .ok (.astore 4, 2) := dk_58 4 (dk_at dksX6_valueByHistory_2 8 rfl rfl)
theorem dX6_valueByHistory_54 : decode cX6_valueByHistory 54 = .ok (.aload 4, 2) := dk_25 4 (dk_at dksX6_valueByHistory_2 10 rfl rfl)
theorem dX6_valueByHistory_56 : decode cX6_valueByHistory 56 = .ok (.getfield 156, 3) := dk_180 0 156 (dk_at dksX6_valueByHistory_2 12 rfl rfl)
theorem dX6_valueByHistory_59 : decode cX6_valueByHistory 59 = .ok (.bipush 119, 2) := dk_16 119 (dk_at dksX6_valueByHistory_2 15 rfl rfl)
theorem dX6_valueByHistory_61 : decode cX6_valueByHistory 61 = .ok (.if_icmp .ne 20, 3) := dk_160 0 20 (dk_at dksX6_valueByHistory_2 17 rfl rfl)
theorem dX6_valueByHistory_64 : decode cX6_valueByHistory 64 = .ok (.aload 4, 2) := dk_25 4 (dk_at dksX6_valueByHistory_2 20 rfl rfl)
theorem dX6_valueByHistory_66 : decode cX6_valueByHistory 66 = .ok (.getfield 271, 3) := dk_180 1 15 (dk_at dksX6_valueByHistory_3 0 rfl rfl)
theorem dX6_valueByHistory_69 : decode cX6_valueByHistory 69 = .ok (.iload_n 1, 1) := dk_27 (dk_at dksX6_valueByHistory_3 3 rfl rfl)
theorem dX6_valueByHistory_70 : decode cX6_valueByHistory 70 = .ok (.if_icmp .ne 11, 3) := dk_160 0 11 (dk_at dksX6_valueByHistory_3 4 rfl rfl)
theorem dX6_valueByHistory_73 : decode cX6_valueByHistory 73 = .ok (.aload 4, 2) := dk_25 4 (dk_at dksX6_valueByHistory_3 7 rfl rfl)
theorem dX6_valueByHistory_75 : decode cX6_valueByHistory 75 = .ok (.getfield 274, 3) := dk_180 1 18 (dk_at dksX6_valueByHistory_3 9 rfl rfl)
theorem dX6_valueByHistory_78 : decode cX6_valueByHistory 78 = .ok (.goto 4, 3) := dk_167 0 4 (dk_at dksX6_valueByHistory_3 12 rfl rfl)
theorem dX6_valueByHistory_81 : decode cX6_valueByHistory 81 = .ok (.iload_n 2, 1) := dk_28 (dk_at dksX6_valueByHistory_3 15 rfl rfl)
theorem dX6_valueByHistory_82 : decode cX6_valueByHistory 82 = .ok (.istore_n 2, 1) := dk_61 (dk_at dksX6_valueByHistory_3 16 rfl rfl)
theorem dX6_valueByHistory_83 : decode cX6_valueByHistory 83 = .ok (.goto (-49), 3) := dk_167 255 207 (dk_at dksX6_valueByHistory_3 17 rfl rfl)
theorem dX6_valueByHistory_86 : decode cX6_valueByHistory 86 = .ok (.iload_n 2, 1) := dk_28 (dk_at dksX6_valueByHistory_3 20 rfl rfl)
theorem dX6_valueByHistory_87 : decode cX6_valueByHistory 87 = .ok (.ireturn, 1) := dk_172 (dk_at dksX6_valueByHistory_3 21 rfl rfl)
abbrev cX6_delivered : ByteArray := prog_19_method_53_code
def yX6_delivered : MethodName := ⟨RX6, "delivered", "()J"⟩
def dkwX6_delivered_0 : List UInt8 := [42, 3, 181, 0, 32, 42, 180, 0, 195, 173]
abbrev dktX6_delivered_0 : List UInt8 := dkwX6_delivered_0 ++ []
theorem dksX6_delivered_0 : cX6_delivered.data.toList.drop 0 = dktX6_delivered_0 := by decide +kernel
theorem dX6_delivered_0 : decode cX6_delivered 0 = .ok (.aload_n 0, 1) := dk_42 (dk_at dksX6_delivered_0 0 rfl rfl)
theorem dX6_delivered_1 : decode cX6_delivered 1 = .ok (.iconst 0, 1) := dk_3 (dk_at dksX6_delivered_0 1 rfl rfl)
theorem dX6_delivered_2 : decode cX6_delivered 2 = .ok (.putfield 32, 3) := dk_181 0 32 (dk_at dksX6_delivered_0 2 rfl rfl)
theorem dX6_delivered_5 : decode cX6_delivered 5 = .ok (.aload_n 0, 1) := dk_42 (dk_at dksX6_delivered_0 5 rfl rfl)
theorem dX6_delivered_6 : decode cX6_delivered 6 = .ok (.getfield 195, 3) := dk_180 0 195 (dk_at dksX6_delivered_0 6 rfl rfl)
theorem dX6_delivered_9 : decode cX6_delivered 9 = .ok (.lreturn, 1) := dk_173 (dk_at dksX6_delivered_0 9 rfl rfl)
abbrev cX6_refusedShare : ByteArray := prog_19_method_54_code
def yX6_refusedShare : MethodName := ⟨RX6, "refusedShare", "()F"⟩
def dkwX6_refusedShare_1 : List UInt8 := [167, 0, 14, 42, 180, 1, 21, 134, 42, 180, 0, 195, 137, 110, 174]
abbrev dktX6_refusedShare_1 : List UInt8 := dkwX6_refusedShare_1 ++ []
def dkwX6_refusedShare_0 : List UInt8 := [42, 42, 180, 0, 195, 9, 148, 154, 0, 7, 4, 167, 0, 4, 3, 182, 0, 43, 153, 0, 7, 11]
abbrev dktX6_refusedShare_0 : List UInt8 := dkwX6_refusedShare_0 ++ dktX6_refusedShare_1
theorem dksX6_refusedShare_0 : cX6_refusedShare.data.toList.drop 0 = dktX6_refusedShare_0 := by decide +kernel
theorem dksX6_refusedShare_1 : cX6_refusedShare.data.toList.drop 22 = dktX6_refusedShare_1 := dk_seg dksX6_refusedShare_0 22 rfl rfl
theorem dX6_refusedShare_0 : decode cX6_refusedShare 0 = .ok (.aload_n 0, 1) := dk_42 (dk_at dksX6_refusedShare_0 0 rfl rfl)
theorem dX6_refusedShare_1 : decode cX6_refusedShare 1 = .ok (.aload_n 0, 1) := dk_42 (dk_at dksX6_refusedShare_0 1 rfl rfl)
theorem dX6_refusedShare_2 : decode cX6_refusedShare 2 = .ok (.getfield 195, 3) := dk_180 0 195 (dk_at dksX6_refusedShare_0 2 rfl rfl)
theorem dX6_refusedShare_5 : decode cX6_refusedShare 5 = .ok (.lconst 0, 1) := dk_9 (dk_at dksX6_refusedShare_0 5 rfl rfl)
theorem dX6_refusedShare_6 : decode cX6_refusedShare 6 = .ok (.lcmp, 1) := dk_148 (dk_at dksX6_refusedShare_0 6 rfl rfl)
theorem dX6_refusedShare_7 : decode cX6_refusedShare 7 = .ok (.ifCond .ne 7, 3) := dk_154 0 7 (dk_at dksX6_refusedShare_0 7 rfl rfl)
theorem dX6_refusedShare_10 : decode cX6_refusedShare 10 = .ok (.iconst 1, 1) := dk_4 (dk_at dksX6_refusedShare_0 10 rfl rfl)
theorem dX6_refusedShare_11 : decode cX6_refusedShare 11 = .ok (.goto 4, 3) := dk_167 0 4 (dk_at dksX6_refusedShare_0 11 rfl rfl)
theorem dX6_refusedShare_14 : decode cX6_refusedShare 14 = .ok (.iconst 0, 1) := dk_3 (dk_at dksX6_refusedShare_0 14 rfl rfl)
theorem dX6_refusedShare_15 : decode cX6_refusedShare 15 = .ok (.invokevirtual 43, 3) := dk_182 0 43 (dk_at dksX6_refusedShare_0 15 rfl rfl)
theorem dX6_refusedShare_18 : decode cX6_refusedShare 18 = .ok (.ifCond .eq 7, 3) := dk_153 0 7 (dk_at dksX6_refusedShare_0 18 rfl rfl)
theorem dX6_refusedShare_21 : decode cX6_refusedShare 21 = .ok (.fconst 0, 1) := dk_11 (dk_at dksX6_refusedShare_0 21 rfl rfl)
theorem dX6_refusedShare_22 : decode cX6_refusedShare 22 = .ok (.goto 14, 3) := dk_167 0 14 (dk_at dksX6_refusedShare_1 0 rfl rfl)
theorem dX6_refusedShare_25 : decode cX6_refusedShare 25 = .ok (.aload_n 0, 1) := dk_42 (dk_at dksX6_refusedShare_1 3 rfl rfl)
theorem dX6_refusedShare_26 : decode cX6_refusedShare 26 = .ok (.getfield 277, 3) := dk_180 1 21 (dk_at dksX6_refusedShare_1 4 rfl rfl)
theorem dX6_refusedShare_29 : decode cX6_refusedShare 29 = .ok (.i2f, 1) := dk_134 (dk_at dksX6_refusedShare_1 7 rfl rfl)
theorem dX6_refusedShare_30 : decode cX6_refusedShare 30 = .ok (.aload_n 0, 1) := dk_42 (dk_at dksX6_refusedShare_1 8 rfl rfl)
theorem dX6_refusedShare_31 : decode cX6_refusedShare 31 = .ok (.getfield 195, 3) := dk_180 0 195 (dk_at dksX6_refusedShare_1 9 rfl rfl)
theorem dX6_refusedShare_34 : decode cX6_refusedShare 34 = .ok (.l2f, 1) := dk_137 (dk_at dksX6_refusedShare_1 12 rfl rfl)
theorem dX6_refusedShare_35 : decode cX6_refusedShare 35 = .ok (.fdiv, 1) := dk_110 (dk_at dksX6_refusedShare_1 13 rfl rfl)
theorem dX6_refusedShare_36 : decode cX6_refusedShare 36 = .ok (.freturn, 1) := dk_174 (dk_at dksX6_refusedShare_1 14 rfl rfl)
abbrev cX6_meanLast : ByteArray := prog_19_method_55_code
def yX6_meanLast : MethodName := ⟨RX6, "meanLast", "()D"⟩
def dkwX6_meanLast_2 : List UInt8 := [20, 1, 24, 111, 175]
abbrev dktX6_meanLast_2 : List UInt8 := dkwX6_meanLast_2 ++ []
def dkwX6_meanLast_1 : List UInt8 := [44, 21, 4, 50, 58, 5, 27, 25, 5, 182, 0, 133, 96, 60, 132, 4, 1, 167, 255, 233, 27, 135]
abbrev dktX6_meanLast_1 : List UInt8 := dkwX6_meanLast_1 ++ dktX6_meanLast_2
def dkwX6_meanLast_0 : List UInt8 := [42, 3, 181, 0, 32, 3, 60, 42, 180, 0, 15, 77, 44, 190, 62, 3, 54, 4, 21, 4, 29, 162, 0, 23]
abbrev dktX6_meanLast_0 : List UInt8 := dkwX6_meanLast_0 ++ dktX6_meanLast_1
theorem dksX6_meanLast_0 : cX6_meanLast.data.toList.drop 0 = dktX6_meanLast_0 := by decide +kernel
theorem dksX6_meanLast_1 : cX6_meanLast.data.toList.drop 24 = dktX6_meanLast_1 := dk_seg dksX6_meanLast_0 24 rfl rfl
theorem dksX6_meanLast_2 : cX6_meanLast.data.toList.drop 46 = dktX6_meanLast_2 := dk_seg dksX6_meanLast_1 22 rfl rfl
theorem dX6_meanLast_0 : decode cX6_meanLast 0 = .ok (.aload_n 0, 1) := dk_42 (dk_at dksX6_meanLast_0 0 rfl rfl)
theorem dX6_meanLast_1 : decode cX6_meanLast 1 = .ok (.iconst 0, 1) := dk_3 (dk_at dksX6_meanLast_0 1 rfl rfl)
theorem dX6_meanLast_2 : decode cX6_meanLast 2 = .ok (.putfield 32, 3) := dk_181 0 32 (dk_at dksX6_meanLast_0 2 rfl rfl)
theorem dX6_meanLast_5 : decode cX6_meanLast 5 = .ok (.iconst 0, 1) := dk_3 (dk_at dksX6_meanLast_0 5 rfl rfl)
theorem dX6_meanLast_6 : decode cX6_meanLast 6 = .ok (.istore_n 1, 1) := dk_60 (dk_at dksX6_meanLast_0 6 rfl rfl)
theorem dX6_meanLast_7 : decode cX6_meanLast 7 = .ok (.aload_n 0, 1) := dk_42 (dk_at dksX6_meanLast_0 7 rfl rfl)
theorem dX6_meanLast_8 : decode cX6_meanLast 8 = .ok (.getfield 15, 3) := dk_180 0 15 (dk_at dksX6_meanLast_0 8 rfl rfl)
theorem dX6_meanLast_11 : decode cX6_meanLast 11 = .ok (.astore_n 2, 1) := dk_77 (dk_at dksX6_meanLast_0 11 rfl rfl)
theorem dX6_meanLast_12 : decode cX6_meanLast 12 = .ok (.aload_n 2, 1) := dk_44 (dk_at dksX6_meanLast_0 12 rfl rfl)
theorem dX6_meanLast_13 : decode cX6_meanLast 13 = .ok (.arraylength, 1) := dk_190 (dk_at dksX6_meanLast_0 13 rfl rfl)
theorem dX6_meanLast_14 : decode cX6_meanLast 14 = .ok (.istore_n 3, 1) := dk_62 (dk_at dksX6_meanLast_0 14 rfl rfl)
theorem dX6_meanLast_15 : decode cX6_meanLast 15 = .ok (.iconst 0, 1) := dk_3 (dk_at dksX6_meanLast_0 15 rfl rfl)
theorem dX6_meanLast_16 : decode cX6_meanLast 16 = .ok (.istore 4, 2) := dk_54 4 (dk_at dksX6_meanLast_0 16 rfl rfl)
theorem dX6_meanLast_18 : decode cX6_meanLast 18 = .ok (.iload 4, 2) := dk_21 4 (dk_at dksX6_meanLast_0 18 rfl rfl)
theorem dX6_meanLast_20 : decode cX6_meanLast 20 = .ok (.iload_n 3, 1) := dk_29 (dk_at dksX6_meanLast_0 20 rfl rfl)
theorem dX6_meanLast_21 : decode cX6_meanLast 21 = .ok (.if_icmp .ge 23, 3) := dk_162 0 23 (dk_at dksX6_meanLast_0 21 rfl rfl)
theorem dX6_meanLast_24 : decode cX6_meanLast 24 = .ok (.aload_n 2, 1) := dk_44 (dk_at dksX6_meanLast_1 0 rfl rfl)
theorem dX6_meanLast_25 : decode cX6_meanLast 25 = .ok (.iload 4, 2) := dk_21 4 (dk_at dksX6_meanLast_1 1 rfl rfl)
theorem dX6_meanLast_27 : decode cX6_meanLast 27 = .ok (.aaload, 1) := dk_50 (dk_at dksX6_meanLast_1 3 rfl rfl)
theorem dX6_meanLast_28 : decode cX6_meanLast 28 = .ok (.astore 5, 2) := dk_58 5 (dk_at dksX6_meanLast_1 4 rfl rfl)
theorem dX6_meanLast_30 : decode cX6_meanLast 30 = .ok (.iload_n 1, 1) := dk_27 (dk_at dksX6_meanLast_1 6 rfl rfl)
theorem dX6_meanLast_31 : decode cX6_meanLast 31 = .ok (.aload 5, 2) := dk_25 5 (dk_at dksX6_meanLast_1 7 rfl rfl)
theorem dX6_meanLast_33 : decode cX6_meanLast 33 = .ok (.invokevirtual 133, 3) := dk_182 0 133 (dk_at dksX6_meanLast_1 9 rfl rfl)
theorem dX6_meanLast_36 : decode cX6_meanLast 36 = .ok (.iadd, 1) := dk_96 (dk_at dksX6_meanLast_1 12 rfl rfl)
theorem dX6_meanLast_37 : decode cX6_meanLast 37 = .ok (.istore_n 1, 1) := dk_60 (dk_at dksX6_meanLast_1 13 rfl rfl)
theorem dX6_meanLast_38 : decode cX6_meanLast 38 = .ok (.iinc 4 1, 3) := dk_132 4 1 (dk_at dksX6_meanLast_1 14 rfl rfl)
theorem dX6_meanLast_41 : decode cX6_meanLast 41 = .ok (.goto (-23), 3) := dk_167 255 233 (dk_at dksX6_meanLast_1 17 rfl rfl)
theorem dX6_meanLast_44 : decode cX6_meanLast 44 = .ok (.iload_n 1, 1) := dk_27 (dk_at dksX6_meanLast_1 20 rfl rfl)
theorem dX6_meanLast_45 : decode cX6_meanLast 45 = .ok (.i2d, 1) := dk_135 (dk_at dksX6_meanLast_1 21 rfl rfl)
theorem dX6_meanLast_46 : decode cX6_meanLast 46 = .ok (.ldc2_w 280, 3) := dk_20 1 24 (dk_at dksX6_meanLast_2 0 rfl rfl)
theorem dX6_meanLast_49 : decode cX6_meanLast 49 = .ok (.ddiv, 1) := dk_111 (dk_at dksX6_meanLast_2 3 rfl rfl)
theorem dX6_meanLast_50 : decode cX6_meanLast 50 = .ok (.dreturn, 1) := dk_175 (dk_at dksX6_meanLast_2 4 rfl rfl)
abbrev cX6_isSound : ByteArray := prog_19_method_56_code
def yX6_isSound : MethodName := ⟨RX6, "isSound", "()Z"⟩
def dkwX6_isSound_0 : List UInt8 := [42, 3, 181, 0, 32, 4, 172]
abbrev dktX6_isSound_0 : List UInt8 := dkwX6_isSound_0 ++ []
theorem dksX6_isSound_0 : cX6_isSound.data.toList.drop 0 = dktX6_isSound_0 := by decide +kernel
theorem dX6_isSound_0 : decode cX6_isSound 0 = .ok (.aload_n 0, 1) := dk_42 (dk_at dksX6_isSound_0 0 rfl rfl)
theorem dX6_isSound_1 : decode cX6_isSound 1 = .ok (.iconst 0, 1) := dk_3 (dk_at dksX6_isSound_0 1 rfl rfl)
theorem dX6_isSound_2 : decode cX6_isSound 2 = .ok (.putfield 32, 3) := dk_181 0 32 (dk_at dksX6_isSound_0 2 rfl rfl)
theorem dX6_isSound_5 : decode cX6_isSound 5 = .ok (.iconst 1, 1) := dk_4 (dk_at dksX6_isSound_0 5 rfl rfl)
theorem dX6_isSound_6 : decode cX6_isSound 6 = .ok (.ireturn, 1) := dk_172 (dk_at dksX6_isSound_0 6 rfl rfl)
theorem q54 : (Jvm.Cond.initialized "QuorumAlmanacModel") ∈ lw_all := lw_g (lw_at lw_m1 10 rfl) rfl
theorem q470 : (Jvm.Cond.selects "QuorumAlmanacModel" ({ cls := "java/lang/Object", name := "hashCode", desc := "()I" } : Jvm.MethodName) ({ cls := "java/lang/Object", name := "hashCode", desc := "()I" } : Jvm.MethodName)) ∈ lw_all := lw_g (lw_at lw_m2 186 rfl) rfl
theorem q572 : (Jvm.Cond.selects "QuorumAlmanacModel" ({ cls := "java/lang/Object", name := "getClass", desc := "()Ljava/lang/Class;" } : Jvm.MethodName) ({ cls := "java/lang/Object", name := "getClass", desc := "()Ljava/lang/Class;" } : Jvm.MethodName)) ∈ lw_all := lw_g (lw_at lw_m3 48 rfl) rfl
theorem q654 : (Jvm.Cond.selects "QuorumAlmanacModel" ({ cls := "java/lang/Object", name := "equals", desc := "(Ljava/lang/Object;)Z" } : Jvm.MethodName) ({ cls := "java/lang/Object", name := "equals", desc := "(Ljava/lang/Object;)Z" } : Jvm.MethodName)) ∈ lw_all := lw_g (lw_at lw_m3 130 rfl) rfl
theorem q1931 : (Jvm.Cond.instantiable "QuorumAlmanacModel" (9 : Nat)) ∈ lw_all := lw_g (lw_at lw_m8 207 rfl) rfl
theorem q1933 : (Jvm.Cond.instanceMethod ({ cls := "QuorumAlmanacModel", name := "<init>", desc := "(I)V" } : Jvm.MethodName)) ∈ lw_all := lw_g (lw_at lw_m8 209 rfl) rfl
theorem q1934 : (Jvm.Cond.code ({ cls := "QuorumAlmanacModel", name := "<init>", desc := "(I)V" } : Jvm.MethodName) prog_19_method_3_code (4 : Nat) (Option.none : Option Jvm.ClassFile.FieldType)) ∈ lw_all := lw_g (lw_at lw_m8 210 rfl) rfl
theorem q1935 : (Jvm.Cond.methodLink "QuorumAlmanacModel" (7 : Nat) ({ cls := "java/lang/Object", name := "<init>", desc := "()V" } : Jvm.MethodName)) ∈ lw_all := lw_g (lw_at lw_m8 211 rfl) rfl
theorem q1936 : (Jvm.Cond.classLink "QuorumAlmanacModel" (13 : Nat) "QuorumAlmanacModel$Node") ∈ lw_all := lw_g (lw_at lw_m8 212 rfl) rfl
theorem q1938 : (Jvm.Cond.classLink "QuorumAlmanacModel" (19 : Nat) "java/util/ArrayList") ∈ lw_all := lw_g (lw_at lw_m8 214 rfl) rfl
theorem q1939 : (Jvm.Cond.methodLink "QuorumAlmanacModel" (21 : Nat) ({ cls := "java/util/ArrayList", name := "<init>", desc := "()V" } : Jvm.MethodName)) ∈ lw_all := lw_g (lw_at lw_m8 215 rfl) rfl
theorem q1941 : (Jvm.Cond.methodLink "QuorumAlmanacModel" (36 : Nat) ({ cls := "QuorumAlmanacModel$Node", name := "<init>", desc := "(LQuorumAlmanacModel;II)V" } : Jvm.MethodName)) ∈ lw_all := lw_g (lw_at lw_m8 217 rfl) rfl
theorem q1957 : (Jvm.Cond.fieldLinkNest "QuorumAlmanacModel" (239 : Nat) "QuorumAlmanacModel$Store" "values" "[I" "QuorumAlmanacModel") ∈ lw_tbl := lw_at lw_m8 233 rfl
theorem q1959 : (Jvm.Cond.fieldLinkNest "QuorumAlmanacModel" (268 : Nat) "QuorumAlmanacModel$Store" "writes" "[I" "QuorumAlmanacModel") ∈ lw_tbl := lw_at lw_m8 235 rfl
theorem q1971 : (Jvm.Cond.fieldLinkNest "QuorumAlmanacModel" (115 : Nat) "QuorumAlmanacModel$Snapshot" "index" "I" "QuorumAlmanacModel") ∈ lw_tbl := lw_at lw_m9 7 rfl
theorem q1992 : (Jvm.Cond.fieldLinkNest "QuorumAlmanacModel" (81 : Nat) "QuorumAlmanacModel$Node" "clock" "I" "QuorumAlmanacModel") ∈ lw_tbl := lw_at lw_m9 28 rfl
theorem q1995 : (Jvm.Cond.fieldLinkNest "QuorumAlmanacModel" (127 : Nat) "QuorumAlmanacModel$Node" "term" "I" "QuorumAlmanacModel") ∈ lw_tbl := lw_at lw_m9 31 rfl
theorem q1997 : (Jvm.Cond.fieldLinkNest "QuorumAlmanacModel" (130 : Nat) "QuorumAlmanacModel$Node" "vote" "I" "QuorumAlmanacModel") ∈ lw_tbl := lw_at lw_m9 33 rfl
theorem q1999 : (Jvm.Cond.fieldLinkNest "QuorumAlmanacModel" (123 : Nat) "QuorumAlmanacModel$Node" "role" "C" "QuorumAlmanacModel") ∈ lw_tbl := lw_at lw_m9 35 rfl
theorem q2001 : (Jvm.Cond.fieldLinkNest "QuorumAlmanacModel" (77 : Nat) "QuorumAlmanacModel$Node" "runs" "Z" "QuorumAlmanacModel") ∈ lw_tbl := lw_at lw_m9 37 rfl
theorem q2003 : (Jvm.Cond.fieldLinkNest "QuorumAlmanacModel" (111 : Nat) "QuorumAlmanacModel$Node" "snapshot" "LQuorumAlmanacModel$Snapshot;" "QuorumAlmanacModel") ∈ lw_tbl := lw_at lw_m9 39 rfl
theorem q2005 : (Jvm.Cond.fieldLinkNest "QuorumAlmanacModel" (205 : Nat) "QuorumAlmanacModel$Node" "log" "Ljava/util/ArrayList;" "QuorumAlmanacModel") ∈ lw_tbl := lw_at lw_m9 41 rfl
theorem q2007 : (Jvm.Cond.fieldLinkNest "QuorumAlmanacModel" (136 : Nat) "QuorumAlmanacModel$Node" "synced" "I" "QuorumAlmanacModel") ∈ lw_tbl := lw_at lw_m9 43 rfl
theorem q2008 : (Jvm.Cond.fieldLinkNest "QuorumAlmanacModel" (108 : Nat) "QuorumAlmanacModel$Node" "committed" "I" "QuorumAlmanacModel") ∈ lw_tbl := lw_at lw_m9 44 rfl
theorem q2011 : (Jvm.Cond.fieldLinkNest "QuorumAlmanacModel" (235 : Nat) "QuorumAlmanacModel$Node" "store" "LQuorumAlmanacModel$Store;" "QuorumAlmanacModel") ∈ lw_tbl := lw_at lw_m9 47 rfl
theorem q2013 : (Jvm.Cond.fieldLinkNest "QuorumAlmanacModel" (102 : Nat) "QuorumAlmanacModel$Node" "heard" "I" "QuorumAlmanacModel") ∈ lw_tbl := lw_at lw_m9 49 rfl
theorem q2015 : (Jvm.Cond.fieldLinkNest "QuorumAlmanacModel" (105 : Nat) "QuorumAlmanacModel$Node" "contact" "I" "QuorumAlmanacModel") ∈ lw_tbl := lw_at lw_m9 51 rfl
theorem q2024 : (Jvm.Cond.fieldLinkNest "QuorumAlmanacModel" (250 : Nat) "QuorumAlmanacModel$Node" "begun" "Ljava/util/ArrayList;" "QuorumAlmanacModel") ∈ lw_tbl := lw_at lw_m9 60 rfl
theorem q2071 : (Jvm.Cond.fieldLink "QuorumAlmanacModel" (32 : Nat) "QuorumAlmanacModel" "thrown" "I") ∈ lw_all := lw_g (lw_at lw_m9 107 rfl) rfl
theorem q2072 : (Jvm.Cond.fieldLink "QuorumAlmanacModel" (15 : Nat) "QuorumAlmanacModel" "nodes" "[LQuorumAlmanacModel$Node;") ∈ lw_all := lw_g (lw_at lw_m9 108 rfl) rfl
theorem q2073 : (Jvm.Cond.fieldLink "QuorumAlmanacModel" (22 : Nat) "QuorumAlmanacModel" "messages" "Ljava/util/ArrayList;") ∈ lw_all := lw_g (lw_at lw_m9 109 rfl) rfl
theorem q2074 : (Jvm.Cond.fieldLink "QuorumAlmanacModel" (57 : Nat) "QuorumAlmanacModel" "numbered" "I") ∈ lw_all := lw_g (lw_at lw_m9 110 rfl) rfl
theorem q2075 : (Jvm.Cond.fieldLink "QuorumAlmanacModel" (67 : Nat) "QuorumAlmanacModel" "sent" "I") ∈ lw_all := lw_g (lw_at lw_m9 111 rfl) rfl
theorem q2076 : (Jvm.Cond.fieldLink "QuorumAlmanacModel" (26 : Nat) "QuorumAlmanacModel" "reads" "Ljava/util/ArrayList;") ∈ lw_all := lw_g (lw_at lw_m9 112 rfl) rfl
theorem q2078 : (Jvm.Cond.fieldLink "QuorumAlmanacModel" (29 : Nat) "QuorumAlmanacModel" "history" "Ljava/util/ArrayList;") ∈ lw_all := lw_g (lw_at lw_m9 114 rfl) rfl
theorem q2079 : (Jvm.Cond.fieldLink "QuorumAlmanacModel" (195 : Nat) "QuorumAlmanacModel" "delivered" "J") ∈ lw_all := lw_g (lw_at lw_m9 115 rfl) rfl
theorem q2081 : (Jvm.Cond.fieldLink "QuorumAlmanacModel" (277 : Nat) "QuorumAlmanacModel" "refused" "I") ∈ lw_all := lw_g (lw_at lw_m9 117 rfl) rfl
theorem q2082 : (Jvm.Cond.lays "QuorumAlmanacModel" "QuorumAlmanacModel" "thrown" "I") ∈ lw_all := lw_g (lw_at lw_m9 118 rfl) rfl
theorem q2083 : (Jvm.Cond.soleField "QuorumAlmanacModel" "thrown") ∈ lw_all := lw_g (lw_at lw_m9 119 rfl) rfl
theorem q2084 : (Jvm.Cond.laysFinal "QuorumAlmanacModel" "QuorumAlmanacModel" "nodes" "[LQuorumAlmanacModel$Node;") ∈ lw_all := lw_g (lw_at lw_m9 120 rfl) rfl
theorem q2085 : (Jvm.Cond.soleField "QuorumAlmanacModel" "nodes") ∈ lw_all := lw_g (lw_at lw_m9 121 rfl) rfl
theorem q2086 : (Jvm.Cond.laysFinal "QuorumAlmanacModel" "QuorumAlmanacModel" "messages" "Ljava/util/ArrayList;") ∈ lw_all := lw_g (lw_at lw_m9 122 rfl) rfl
theorem q2087 : (Jvm.Cond.soleField "QuorumAlmanacModel" "messages") ∈ lw_all := lw_g (lw_at lw_m9 123 rfl) rfl
theorem q2088 : (Jvm.Cond.lays "QuorumAlmanacModel" "QuorumAlmanacModel" "numbered" "I") ∈ lw_all := lw_g (lw_at lw_m9 124 rfl) rfl
theorem q2089 : (Jvm.Cond.soleField "QuorumAlmanacModel" "numbered") ∈ lw_all := lw_g (lw_at lw_m9 125 rfl) rfl
theorem q2090 : (Jvm.Cond.lays "QuorumAlmanacModel" "QuorumAlmanacModel" "sent" "I") ∈ lw_all := lw_g (lw_at lw_m9 126 rfl) rfl
theorem q2091 : (Jvm.Cond.soleField "QuorumAlmanacModel" "sent") ∈ lw_all := lw_g (lw_at lw_m9 127 rfl) rfl
theorem q2092 : (Jvm.Cond.laysFinal "QuorumAlmanacModel" "QuorumAlmanacModel" "reads" "Ljava/util/ArrayList;") ∈ lw_all := lw_g (lw_at lw_m9 128 rfl) rfl
theorem q2093 : (Jvm.Cond.soleField "QuorumAlmanacModel" "reads") ∈ lw_all := lw_g (lw_at lw_m9 129 rfl) rfl
theorem q2094 : (Jvm.Cond.laysFinal "QuorumAlmanacModel" "QuorumAlmanacModel" "history" "Ljava/util/ArrayList;") ∈ lw_all := lw_g (lw_at lw_m9 130 rfl) rfl
theorem q2095 : (Jvm.Cond.soleField "QuorumAlmanacModel" "history") ∈ lw_all := lw_g (lw_at lw_m9 131 rfl) rfl
theorem q2096 : (Jvm.Cond.lays "QuorumAlmanacModel" "QuorumAlmanacModel" "delivered" "J") ∈ lw_all := lw_g (lw_at lw_m9 132 rfl) rfl
theorem q2097 : (Jvm.Cond.soleField "QuorumAlmanacModel" "delivered") ∈ lw_all := lw_g (lw_at lw_m9 133 rfl) rfl
theorem q2098 : (Jvm.Cond.lays "QuorumAlmanacModel" "QuorumAlmanacModel" "refused" "I") ∈ lw_all := lw_g (lw_at lw_m9 134 rfl) rfl
theorem q2099 : (Jvm.Cond.soleField "QuorumAlmanacModel" "refused") ∈ lw_all := lw_g (lw_at lw_m9 135 rfl) rfl
theorem q2100 : (Jvm.Cond.superclass "QuorumAlmanacModel" "java/lang/Object") ∈ lw_all := lw_g (lw_at lw_m9 136 rfl) rfl
theorem q2102 : (Jvm.Cond.instanceMethod ({ cls := "QuorumAlmanacModel", name := "thrown", desc := "()I" } : Jvm.MethodName)) ∈ lw_all := lw_g (lw_at lw_m9 138 rfl) rfl
theorem q2103 : (Jvm.Cond.selects "QuorumAlmanacModel" ({ cls := "QuorumAlmanacModel", name := "thrown", desc := "()I" } : Jvm.MethodName) ({ cls := "QuorumAlmanacModel", name := "thrown", desc := "()I" } : Jvm.MethodName)) ∈ lw_all := lw_g (lw_at lw_m9 139 rfl) rfl
theorem q2104 : (Jvm.Cond.code ({ cls := "QuorumAlmanacModel", name := "thrown", desc := "()I" } : Jvm.MethodName) prog_19_method_4_code (1 : Nat) (Option.some Jvm.ClassFile.FieldType.int)) ∈ lw_all := lw_g (lw_at lw_m9 140 rfl) rfl
theorem q2106 : (Jvm.Cond.instanceMethod ({ cls := "QuorumAlmanacModel", name := "tick", desc := "(I)I" } : Jvm.MethodName)) ∈ lw_all := lw_g (lw_at lw_m9 142 rfl) rfl
theorem q2107 : (Jvm.Cond.selects "QuorumAlmanacModel" ({ cls := "QuorumAlmanacModel", name := "tick", desc := "(I)I" } : Jvm.MethodName) ({ cls := "QuorumAlmanacModel", name := "tick", desc := "(I)I" } : Jvm.MethodName)) ∈ lw_all := lw_g (lw_at lw_m9 143 rfl) rfl
theorem q2108 : (Jvm.Cond.code ({ cls := "QuorumAlmanacModel", name := "tick", desc := "(I)I" } : Jvm.MethodName) prog_19_method_11_code (4 : Nat) (Option.some Jvm.ClassFile.FieldType.int)) ∈ lw_all := lw_g (lw_at lw_m9 144 rfl) rfl
theorem q2109 : (Jvm.Cond.methodLink "QuorumAlmanacModel" (74 : Nat) ({ cls := "QuorumAlmanacModel", name := "failsNode", desc := "(I)Z" } : Jvm.MethodName)) ∈ lw_all := lw_g (lw_at lw_m9 145 rfl) rfl
theorem q2110 : (Jvm.Cond.privateMethod ({ cls := "QuorumAlmanacModel", name := "failsNode", desc := "(I)Z" } : Jvm.MethodName)) ∈ lw_tbl := lw_at lw_m9 146 rfl
theorem q2111 : (Jvm.Cond.instanceMethod ({ cls := "QuorumAlmanacModel", name := "failsNode", desc := "(I)Z" } : Jvm.MethodName)) ∈ lw_all := lw_g (lw_at lw_m9 147 rfl) rfl
theorem q2112 : (Jvm.Cond.code ({ cls := "QuorumAlmanacModel", name := "failsNode", desc := "(I)Z" } : Jvm.MethodName) prog_19_method_7_code (2 : Nat) (Option.some Jvm.ClassFile.FieldType.boolean)) ∈ lw_all := lw_g (lw_at lw_m9 148 rfl) rfl
theorem q2113 : (Jvm.Cond.methodLink "QuorumAlmanacModel" (39 : Nat) ({ cls := "QuorumAlmanacModel", name := "in", desc := "(III)Z" } : Jvm.MethodName)) ∈ lw_all := lw_g (lw_at lw_m9 149 rfl) rfl
theorem q2114 : (Jvm.Cond.static ({ cls := "QuorumAlmanacModel", name := "in", desc := "(III)Z" } : Jvm.MethodName)) ∈ lw_all := lw_g (lw_at lw_m9 150 rfl) rfl
theorem q2115 : (Jvm.Cond.code ({ cls := "QuorumAlmanacModel", name := "in", desc := "(III)Z" } : Jvm.MethodName) prog_19_method_6_code (3 : Nat) (Option.some Jvm.ClassFile.FieldType.boolean)) ∈ lw_all := lw_g (lw_at lw_m9 151 rfl) rfl
theorem q2116 : (Jvm.Cond.methodLink "QuorumAlmanacModel" (43 : Nat) ({ cls := "QuorumAlmanacModel", name := "fails", desc := "(I)Z" } : Jvm.MethodName)) ∈ lw_all := lw_g (lw_at lw_m9 152 rfl) rfl
theorem q2117 : (Jvm.Cond.privateMethod ({ cls := "QuorumAlmanacModel", name := "fails", desc := "(I)Z" } : Jvm.MethodName)) ∈ lw_tbl := lw_at lw_m9 153 rfl
theorem q2118 : (Jvm.Cond.instanceMethod ({ cls := "QuorumAlmanacModel", name := "fails", desc := "(I)Z" } : Jvm.MethodName)) ∈ lw_all := lw_g (lw_at lw_m9 154 rfl) rfl
theorem q2119 : (Jvm.Cond.code ({ cls := "QuorumAlmanacModel", name := "fails", desc := "(I)Z" } : Jvm.MethodName) prog_19_method_5_code (2 : Nat) (Option.some Jvm.ClassFile.FieldType.boolean)) ∈ lw_all := lw_g (lw_at lw_m9 155 rfl) rfl
theorem q2120 : (Jvm.Cond.methodLink "QuorumAlmanacModel" (84 : Nat) ({ cls := "QuorumAlmanacModel$Node", name := "ticks", desc := "()V" } : Jvm.MethodName)) ∈ lw_all := lw_g (lw_at lw_m9 156 rfl) rfl
theorem q2164 : (Jvm.Cond.privateMethod ({ cls := "QuorumAlmanacModel", name := "send", desc := "(CII)LQuorumAlmanacModel$Message;" } : Jvm.MethodName)) ∈ lw_tbl := lw_at lw_m9 200 rfl
theorem q2165 : (Jvm.Cond.instanceMethod ({ cls := "QuorumAlmanacModel", name := "send", desc := "(CII)LQuorumAlmanacModel$Message;" } : Jvm.MethodName)) ∈ lw_all := lw_g (lw_at lw_m9 201 rfl) rfl
theorem q2166 : (Jvm.Cond.code ({ cls := "QuorumAlmanacModel", name := "send", desc := "(CII)LQuorumAlmanacModel$Message;" } : Jvm.MethodName) prog_19_method_9_code (5 : Nat) (Option.some (Jvm.ClassFile.FieldType.object "QuorumAlmanacModel$Message"))) ∈ lw_all := lw_g (lw_at lw_m9 202 rfl) rfl
theorem q2167 : (Jvm.Cond.classLink "QuorumAlmanacModel" (55 : Nat) "QuorumAlmanacModel$Message") ∈ lw_all := lw_g (lw_at lw_m9 203 rfl) rfl
theorem q2169 : (Jvm.Cond.methodLink "QuorumAlmanacModel" (60 : Nat) ({ cls := "QuorumAlmanacModel$Message", name := "<init>", desc := "(ICII)V" } : Jvm.MethodName)) ∈ lw_all := lw_g (lw_at lw_m9 205 rfl) rfl
theorem q2174 : (Jvm.Cond.fieldLinkNest "QuorumAlmanacModel" (166 : Nat) "QuorumAlmanacModel$Message" "number" "I" "QuorumAlmanacModel") ∈ lw_tbl := lw_at lw_m9 210 rfl
theorem q2177 : (Jvm.Cond.fieldLinkNest "QuorumAlmanacModel" (186 : Nat) "QuorumAlmanacModel$Message" "kind" "C" "QuorumAlmanacModel") ∈ lw_tbl := lw_at lw_m9 213 rfl
theorem q2180 : (Jvm.Cond.fieldLinkNest "QuorumAlmanacModel" (187 : Nat) "QuorumAlmanacModel$Message" "from" "I" "QuorumAlmanacModel") ∈ lw_tbl := lw_at lw_m9 216 rfl
theorem q2182 : (Jvm.Cond.fieldLinkNest "QuorumAlmanacModel" (190 : Nat) "QuorumAlmanacModel$Message" "to" "I" "QuorumAlmanacModel") ∈ lw_tbl := lw_at lw_m9 218 rfl
theorem q2224 : (Jvm.Cond.methodLink "QuorumAlmanacModel" (63 : Nat) ({ cls := "QuorumAlmanacModel", name := "comes", desc := "(LQuorumAlmanacModel$Message;)V" } : Jvm.MethodName)) ∈ lw_all := lw_g (lw_at lw_m10 20 rfl) rfl
theorem q2225 : (Jvm.Cond.privateMethod ({ cls := "QuorumAlmanacModel", name := "comes", desc := "(LQuorumAlmanacModel$Message;)V" } : Jvm.MethodName)) ∈ lw_tbl := lw_at lw_m10 21 rfl
theorem q2226 : (Jvm.Cond.instanceMethod ({ cls := "QuorumAlmanacModel", name := "comes", desc := "(LQuorumAlmanacModel$Message;)V" } : Jvm.MethodName)) ∈ lw_all := lw_g (lw_at lw_m10 22 rfl) rfl
theorem q2227 : (Jvm.Cond.code ({ cls := "QuorumAlmanacModel", name := "comes", desc := "(LQuorumAlmanacModel$Message;)V" } : Jvm.MethodName) prog_19_method_10_code (4 : Nat) (Option.none : Option Jvm.ClassFile.FieldType)) ∈ lw_all := lw_g (lw_at lw_m10 23 rfl) rfl
theorem q2228 : (Jvm.Cond.methodLink "QuorumAlmanacModel" (51 : Nat) ({ cls := "java/util/ArrayList", name := "add", desc := "(Ljava/lang/Object;)Z" } : Jvm.MethodName)) ∈ lw_all := lw_g (lw_at lw_m10 24 rfl) rfl
theorem q2229 : (Jvm.Cond.methodLink "QuorumAlmanacModel" (47 : Nat) ({ cls := "java/util/ArrayList", name := "size", desc := "()I" } : Jvm.MethodName)) ∈ lw_all := lw_g (lw_at lw_m10 25 rfl) rfl
theorem q2230 : (Jvm.Cond.methodLink "QuorumAlmanacModel" (70 : Nat) ({ cls := "java/util/ArrayList", name := "remove", desc := "(I)Ljava/lang/Object;" } : Jvm.MethodName)) ∈ lw_all := lw_g (lw_at lw_m10 26 rfl) rfl
theorem q2248 : (Jvm.Cond.static ({ cls := "QuorumAlmanacModel", name := "isMost", desc := "(II)Z" } : Jvm.MethodName)) ∈ lw_all := lw_g (lw_at lw_m10 44 rfl) rfl
theorem q2249 : (Jvm.Cond.code ({ cls := "QuorumAlmanacModel", name := "isMost", desc := "(II)Z" } : Jvm.MethodName) prog_19_method_2_code (2 : Nat) (Option.some Jvm.ClassFile.FieldType.boolean)) ∈ lw_all := lw_g (lw_at lw_m10 45 rfl) rfl
theorem q2250 : (Jvm.Cond.methodLink "QuorumAlmanacModel" (3 : Nat) ({ cls := "QuorumAlmanacModel", name := "bits", desc := "(I)I" } : Jvm.MethodName)) ∈ lw_all := lw_g (lw_at lw_m10 46 rfl) rfl
theorem q2251 : (Jvm.Cond.static ({ cls := "QuorumAlmanacModel", name := "bits", desc := "(I)I" } : Jvm.MethodName)) ∈ lw_all := lw_g (lw_at lw_m10 47 rfl) rfl
theorem q2252 : (Jvm.Cond.code ({ cls := "QuorumAlmanacModel", name := "bits", desc := "(I)I" } : Jvm.MethodName) prog_19_method_1_code (3 : Nat) (Option.some Jvm.ClassFile.FieldType.int)) ∈ lw_all := lw_g (lw_at lw_m10 48 rfl) rfl
theorem q2260 : (Jvm.Cond.fieldLinkNest "QuorumAlmanacModel" (153 : Nat) "QuorumAlmanacModel$Entry" "term" "I" "QuorumAlmanacModel") ∈ lw_tbl := lw_at lw_m10 56 rfl
theorem q2264 : (Jvm.Cond.fieldLinkNest "QuorumAlmanacModel" (156 : Nat) "QuorumAlmanacModel$Entry" "kind" "C" "QuorumAlmanacModel") ∈ lw_tbl := lw_at lw_m10 60 rfl
theorem q2268 : (Jvm.Cond.fieldLinkNest "QuorumAlmanacModel" (271 : Nat) "QuorumAlmanacModel$Entry" "one" "I" "QuorumAlmanacModel") ∈ lw_tbl := lw_at lw_m10 64 rfl
theorem q2272 : (Jvm.Cond.fieldLinkNest "QuorumAlmanacModel" (274 : Nat) "QuorumAlmanacModel$Entry" "other" "I" "QuorumAlmanacModel") ∈ lw_tbl := lw_at lw_m10 68 rfl
theorem q2283 : (Jvm.Cond.instanceMethod ({ cls := "QuorumAlmanacModel", name := "sync", desc := "(I)I" } : Jvm.MethodName)) ∈ lw_all := lw_g (lw_at lw_m10 79 rfl) rfl
theorem q2284 : (Jvm.Cond.selects "QuorumAlmanacModel" ({ cls := "QuorumAlmanacModel", name := "sync", desc := "(I)I" } : Jvm.MethodName) ({ cls := "QuorumAlmanacModel", name := "sync", desc := "(I)I" } : Jvm.MethodName)) ∈ lw_all := lw_g (lw_at lw_m10 80 rfl) rfl
theorem q2285 : (Jvm.Cond.code ({ cls := "QuorumAlmanacModel", name := "sync", desc := "(I)I" } : Jvm.MethodName) prog_19_method_13_code (2 : Nat) (Option.some Jvm.ClassFile.FieldType.int)) ∈ lw_all := lw_g (lw_at lw_m10 81 rfl) rfl
theorem q2286 : (Jvm.Cond.methodLink "QuorumAlmanacModel" (87 : Nat) ({ cls := "QuorumAlmanacModel", name := "failsDown", desc := "(I)Z" } : Jvm.MethodName)) ∈ lw_all := lw_g (lw_at lw_m10 82 rfl) rfl
theorem q2287 : (Jvm.Cond.privateMethod ({ cls := "QuorumAlmanacModel", name := "failsDown", desc := "(I)Z" } : Jvm.MethodName)) ∈ lw_tbl := lw_at lw_m10 83 rfl
theorem q2288 : (Jvm.Cond.instanceMethod ({ cls := "QuorumAlmanacModel", name := "failsDown", desc := "(I)Z" } : Jvm.MethodName)) ∈ lw_all := lw_g (lw_at lw_m10 84 rfl) rfl
theorem q2289 : (Jvm.Cond.code ({ cls := "QuorumAlmanacModel", name := "failsDown", desc := "(I)Z" } : Jvm.MethodName) prog_19_method_12_code (2 : Nat) (Option.some Jvm.ClassFile.FieldType.boolean)) ∈ lw_all := lw_g (lw_at lw_m10 85 rfl) rfl
theorem q2290 : (Jvm.Cond.methodLink "QuorumAlmanacModel" (90 : Nat) ({ cls := "QuorumAlmanacModel$Node", name := "syncs", desc := "()I" } : Jvm.MethodName)) ∈ lw_all := lw_g (lw_at lw_m10 86 rfl) rfl
theorem q2311 : (Jvm.Cond.privateMethod ({ cls := "QuorumAlmanacModel", name := "tellsHistory", desc := "(ILQuorumAlmanacModel$Entry;)V" } : Jvm.MethodName)) ∈ lw_tbl := lw_at lw_m10 107 rfl
theorem q2312 : (Jvm.Cond.instanceMethod ({ cls := "QuorumAlmanacModel", name := "tellsHistory", desc := "(ILQuorumAlmanacModel$Entry;)V" } : Jvm.MethodName)) ∈ lw_all := lw_g (lw_at lw_m10 108 rfl) rfl
theorem q2313 : (Jvm.Cond.code ({ cls := "QuorumAlmanacModel", name := "tellsHistory", desc := "(ILQuorumAlmanacModel$Entry;)V" } : Jvm.MethodName) prog_19_method_8_code (4 : Nat) (Option.none : Option Jvm.ClassFile.FieldType)) ∈ lw_all := lw_g (lw_at lw_m10 109 rfl) rfl
theorem q2339 : (Jvm.Cond.instanceMethod ({ cls := "QuorumAlmanacModel", name := "crash", desc := "(I)I" } : Jvm.MethodName)) ∈ lw_all := lw_g (lw_at lw_m10 135 rfl) rfl
theorem q2340 : (Jvm.Cond.selects "QuorumAlmanacModel" ({ cls := "QuorumAlmanacModel", name := "crash", desc := "(I)I" } : Jvm.MethodName) ({ cls := "QuorumAlmanacModel", name := "crash", desc := "(I)I" } : Jvm.MethodName)) ∈ lw_all := lw_g (lw_at lw_m10 136 rfl) rfl
theorem q2341 : (Jvm.Cond.code ({ cls := "QuorumAlmanacModel", name := "crash", desc := "(I)I" } : Jvm.MethodName) prog_19_method_14_code (2 : Nat) (Option.some Jvm.ClassFile.FieldType.int)) ∈ lw_all := lw_g (lw_at lw_m10 137 rfl) rfl
theorem q2342 : (Jvm.Cond.methodLink "QuorumAlmanacModel" (93 : Nat) ({ cls := "QuorumAlmanacModel$Node", name := "crashes", desc := "()I" } : Jvm.MethodName)) ∈ lw_all := lw_g (lw_at lw_m10 138 rfl) rfl
theorem q2358 : (Jvm.Cond.instanceMethod ({ cls := "QuorumAlmanacModel", name := "start", desc := "(I)I" } : Jvm.MethodName)) ∈ lw_all := lw_g (lw_at lw_m10 154 rfl) rfl
theorem q2359 : (Jvm.Cond.selects "QuorumAlmanacModel" ({ cls := "QuorumAlmanacModel", name := "start", desc := "(I)I" } : Jvm.MethodName) ({ cls := "QuorumAlmanacModel", name := "start", desc := "(I)I" } : Jvm.MethodName)) ∈ lw_all := lw_g (lw_at lw_m10 155 rfl) rfl
theorem q2360 : (Jvm.Cond.code ({ cls := "QuorumAlmanacModel", name := "start", desc := "(I)I" } : Jvm.MethodName) prog_19_method_15_code (4 : Nat) (Option.some Jvm.ClassFile.FieldType.int)) ∈ lw_all := lw_g (lw_at lw_m10 156 rfl) rfl
theorem q2361 : (Jvm.Cond.methodLink "QuorumAlmanacModel" (96 : Nat) ({ cls := "java/lang/Math", name := "max", desc := "(II)I" } : Jvm.MethodName)) ∈ lw_all := lw_g (lw_at lw_m10 157 rfl) rfl
theorem q2363 : (Jvm.Cond.instanceMethod ({ cls := "QuorumAlmanacModel", name := "compact", desc := "(I)I" } : Jvm.MethodName)) ∈ lw_all := lw_g (lw_at lw_m10 159 rfl) rfl
theorem q2364 : (Jvm.Cond.selects "QuorumAlmanacModel" ({ cls := "QuorumAlmanacModel", name := "compact", desc := "(I)I" } : Jvm.MethodName) ({ cls := "QuorumAlmanacModel", name := "compact", desc := "(I)I" } : Jvm.MethodName)) ∈ lw_all := lw_g (lw_at lw_m10 160 rfl) rfl
theorem q2365 : (Jvm.Cond.code ({ cls := "QuorumAlmanacModel", name := "compact", desc := "(I)I" } : Jvm.MethodName) prog_19_method_16_code (3 : Nat) (Option.some Jvm.ClassFile.FieldType.int)) ∈ lw_all := lw_g (lw_at lw_m10 161 rfl) rfl
theorem q2366 : (Jvm.Cond.methodLink "QuorumAlmanacModel" (120 : Nat) ({ cls := "QuorumAlmanacModel$Node", name := "compacts", desc := "()I" } : Jvm.MethodName)) ∈ lw_all := lw_g (lw_at lw_m10 162 rfl) rfl
theorem q2371 : (Jvm.Cond.instanceMethod ({ cls := "QuorumAlmanacModel", name := "role", desc := "(I)C" } : Jvm.MethodName)) ∈ lw_all := lw_g (lw_at lw_m10 167 rfl) rfl
theorem q2372 : (Jvm.Cond.selects "QuorumAlmanacModel" ({ cls := "QuorumAlmanacModel", name := "role", desc := "(I)C" } : Jvm.MethodName) ({ cls := "QuorumAlmanacModel", name := "role", desc := "(I)C" } : Jvm.MethodName)) ∈ lw_all := lw_g (lw_at lw_m10 168 rfl) rfl
theorem q2373 : (Jvm.Cond.code ({ cls := "QuorumAlmanacModel", name := "role", desc := "(I)C" } : Jvm.MethodName) prog_19_method_17_code (2 : Nat) (Option.some Jvm.ClassFile.FieldType.char)) ∈ lw_all := lw_g (lw_at lw_m10 169 rfl) rfl
theorem q2375 : (Jvm.Cond.instanceMethod ({ cls := "QuorumAlmanacModel", name := "term", desc := "(I)I" } : Jvm.MethodName)) ∈ lw_all := lw_g (lw_at lw_m10 171 rfl) rfl
theorem q2376 : (Jvm.Cond.selects "QuorumAlmanacModel" ({ cls := "QuorumAlmanacModel", name := "term", desc := "(I)I" } : Jvm.MethodName) ({ cls := "QuorumAlmanacModel", name := "term", desc := "(I)I" } : Jvm.MethodName)) ∈ lw_all := lw_g (lw_at lw_m10 172 rfl) rfl
theorem q2377 : (Jvm.Cond.code ({ cls := "QuorumAlmanacModel", name := "term", desc := "(I)I" } : Jvm.MethodName) prog_19_method_18_code (2 : Nat) (Option.some Jvm.ClassFile.FieldType.int)) ∈ lw_all := lw_g (lw_at lw_m10 173 rfl) rfl
theorem q2379 : (Jvm.Cond.instanceMethod ({ cls := "QuorumAlmanacModel", name := "vote", desc := "(I)I" } : Jvm.MethodName)) ∈ lw_all := lw_g (lw_at lw_m10 175 rfl) rfl
theorem q2380 : (Jvm.Cond.selects "QuorumAlmanacModel" ({ cls := "QuorumAlmanacModel", name := "vote", desc := "(I)I" } : Jvm.MethodName) ({ cls := "QuorumAlmanacModel", name := "vote", desc := "(I)I" } : Jvm.MethodName)) ∈ lw_all := lw_g (lw_at lw_m10 176 rfl) rfl
theorem q2381 : (Jvm.Cond.code ({ cls := "QuorumAlmanacModel", name := "vote", desc := "(I)I" } : Jvm.MethodName) prog_19_method_19_code (2 : Nat) (Option.some Jvm.ClassFile.FieldType.int)) ∈ lw_all := lw_g (lw_at lw_m10 177 rfl) rfl
theorem q2383 : (Jvm.Cond.instanceMethod ({ cls := "QuorumAlmanacModel", name := "clock", desc := "(I)I" } : Jvm.MethodName)) ∈ lw_all := lw_g (lw_at lw_m10 179 rfl) rfl
theorem q2384 : (Jvm.Cond.selects "QuorumAlmanacModel" ({ cls := "QuorumAlmanacModel", name := "clock", desc := "(I)I" } : Jvm.MethodName) ({ cls := "QuorumAlmanacModel", name := "clock", desc := "(I)I" } : Jvm.MethodName)) ∈ lw_all := lw_g (lw_at lw_m10 180 rfl) rfl
theorem q2385 : (Jvm.Cond.code ({ cls := "QuorumAlmanacModel", name := "clock", desc := "(I)I" } : Jvm.MethodName) prog_19_method_20_code (2 : Nat) (Option.some Jvm.ClassFile.FieldType.int)) ∈ lw_all := lw_g (lw_at lw_m10 181 rfl) rfl
theorem q2387 : (Jvm.Cond.instanceMethod ({ cls := "QuorumAlmanacModel", name := "last", desc := "(I)I" } : Jvm.MethodName)) ∈ lw_all := lw_g (lw_at lw_m10 183 rfl) rfl
theorem q2388 : (Jvm.Cond.selects "QuorumAlmanacModel" ({ cls := "QuorumAlmanacModel", name := "last", desc := "(I)I" } : Jvm.MethodName) ({ cls := "QuorumAlmanacModel", name := "last", desc := "(I)I" } : Jvm.MethodName)) ∈ lw_all := lw_g (lw_at lw_m10 184 rfl) rfl
theorem q2389 : (Jvm.Cond.code ({ cls := "QuorumAlmanacModel", name := "last", desc := "(I)I" } : Jvm.MethodName) prog_19_method_21_code (2 : Nat) (Option.some Jvm.ClassFile.FieldType.int)) ∈ lw_all := lw_g (lw_at lw_m10 185 rfl) rfl
theorem q2390 : (Jvm.Cond.methodLink "QuorumAlmanacModel" (133 : Nat) ({ cls := "QuorumAlmanacModel$Node", name := "last", desc := "()I" } : Jvm.MethodName)) ∈ lw_all := lw_g (lw_at lw_m10 186 rfl) rfl
theorem q2392 : (Jvm.Cond.instanceMethod ({ cls := "QuorumAlmanacModel", name := "synced", desc := "(I)I" } : Jvm.MethodName)) ∈ lw_all := lw_g (lw_at lw_m10 188 rfl) rfl
theorem q2393 : (Jvm.Cond.selects "QuorumAlmanacModel" ({ cls := "QuorumAlmanacModel", name := "synced", desc := "(I)I" } : Jvm.MethodName) ({ cls := "QuorumAlmanacModel", name := "synced", desc := "(I)I" } : Jvm.MethodName)) ∈ lw_all := lw_g (lw_at lw_m10 189 rfl) rfl
theorem q2394 : (Jvm.Cond.code ({ cls := "QuorumAlmanacModel", name := "synced", desc := "(I)I" } : Jvm.MethodName) prog_19_method_22_code (2 : Nat) (Option.some Jvm.ClassFile.FieldType.int)) ∈ lw_all := lw_g (lw_at lw_m10 190 rfl) rfl
theorem q2396 : (Jvm.Cond.instanceMethod ({ cls := "QuorumAlmanacModel", name := "committed", desc := "(I)I" } : Jvm.MethodName)) ∈ lw_all := lw_g (lw_at lw_m10 192 rfl) rfl
theorem q2397 : (Jvm.Cond.selects "QuorumAlmanacModel" ({ cls := "QuorumAlmanacModel", name := "committed", desc := "(I)I" } : Jvm.MethodName) ({ cls := "QuorumAlmanacModel", name := "committed", desc := "(I)I" } : Jvm.MethodName)) ∈ lw_all := lw_g (lw_at lw_m10 193 rfl) rfl
theorem q2398 : (Jvm.Cond.code ({ cls := "QuorumAlmanacModel", name := "committed", desc := "(I)I" } : Jvm.MethodName) prog_19_method_23_code (2 : Nat) (Option.some Jvm.ClassFile.FieldType.int)) ∈ lw_all := lw_g (lw_at lw_m10 194 rfl) rfl
theorem q2400 : (Jvm.Cond.instanceMethod ({ cls := "QuorumAlmanacModel", name := "snapshot", desc := "(I)I" } : Jvm.MethodName)) ∈ lw_all := lw_g (lw_at lw_m10 196 rfl) rfl
theorem q2401 : (Jvm.Cond.selects "QuorumAlmanacModel" ({ cls := "QuorumAlmanacModel", name := "snapshot", desc := "(I)I" } : Jvm.MethodName) ({ cls := "QuorumAlmanacModel", name := "snapshot", desc := "(I)I" } : Jvm.MethodName)) ∈ lw_all := lw_g (lw_at lw_m10 197 rfl) rfl
theorem q2402 : (Jvm.Cond.code ({ cls := "QuorumAlmanacModel", name := "snapshot", desc := "(I)I" } : Jvm.MethodName) prog_19_method_24_code (2 : Nat) (Option.some Jvm.ClassFile.FieldType.int)) ∈ lw_all := lw_g (lw_at lw_m10 198 rfl) rfl
theorem q2404 : (Jvm.Cond.instanceMethod ({ cls := "QuorumAlmanacModel", name := "members", desc := "(I)I" } : Jvm.MethodName)) ∈ lw_all := lw_g (lw_at lw_m10 200 rfl) rfl
theorem q2405 : (Jvm.Cond.selects "QuorumAlmanacModel" ({ cls := "QuorumAlmanacModel", name := "members", desc := "(I)I" } : Jvm.MethodName) ({ cls := "QuorumAlmanacModel", name := "members", desc := "(I)I" } : Jvm.MethodName)) ∈ lw_all := lw_g (lw_at lw_m10 201 rfl) rfl
theorem q2406 : (Jvm.Cond.code ({ cls := "QuorumAlmanacModel", name := "members", desc := "(I)I" } : Jvm.MethodName) prog_19_method_25_code (2 : Nat) (Option.some Jvm.ClassFile.FieldType.int)) ∈ lw_all := lw_g (lw_at lw_m10 202 rfl) rfl
theorem q2407 : (Jvm.Cond.methodLink "QuorumAlmanacModel" (139 : Nat) ({ cls := "QuorumAlmanacModel$Node", name := "members", desc := "()I" } : Jvm.MethodName)) ∈ lw_all := lw_g (lw_at lw_m10 203 rfl) rfl
theorem q2409 : (Jvm.Cond.instanceMethod ({ cls := "QuorumAlmanacModel", name := "entryTerm", desc := "(II)I" } : Jvm.MethodName)) ∈ lw_all := lw_g (lw_at lw_m10 205 rfl) rfl
theorem q2410 : (Jvm.Cond.selects "QuorumAlmanacModel" ({ cls := "QuorumAlmanacModel", name := "entryTerm", desc := "(II)I" } : Jvm.MethodName) ({ cls := "QuorumAlmanacModel", name := "entryTerm", desc := "(II)I" } : Jvm.MethodName)) ∈ lw_all := lw_g (lw_at lw_m10 206 rfl) rfl
theorem q2411 : (Jvm.Cond.code ({ cls := "QuorumAlmanacModel", name := "entryTerm", desc := "(II)I" } : Jvm.MethodName) prog_19_method_27_code (3 : Nat) (Option.some Jvm.ClassFile.FieldType.int)) ∈ lw_all := lw_g (lw_at lw_m10 207 rfl) rfl
theorem q2412 : (Jvm.Cond.methodLink "QuorumAlmanacModel" (145 : Nat) ({ cls := "QuorumAlmanacModel", name := "failsEntry", desc := "(II)Z" } : Jvm.MethodName)) ∈ lw_all := lw_g (lw_at lw_m10 208 rfl) rfl
theorem q2413 : (Jvm.Cond.privateMethod ({ cls := "QuorumAlmanacModel", name := "failsEntry", desc := "(II)Z" } : Jvm.MethodName)) ∈ lw_tbl := lw_at lw_m10 209 rfl
theorem q2414 : (Jvm.Cond.instanceMethod ({ cls := "QuorumAlmanacModel", name := "failsEntry", desc := "(II)Z" } : Jvm.MethodName)) ∈ lw_all := lw_g (lw_at lw_m10 210 rfl) rfl
theorem q2415 : (Jvm.Cond.code ({ cls := "QuorumAlmanacModel", name := "failsEntry", desc := "(II)Z" } : Jvm.MethodName) prog_19_method_26_code (3 : Nat) (Option.some Jvm.ClassFile.FieldType.boolean)) ∈ lw_all := lw_g (lw_at lw_m10 211 rfl) rfl
theorem q2416 : (Jvm.Cond.methodLink "QuorumAlmanacModel" (142 : Nat) ({ cls := "QuorumAlmanacModel$Node", name := "has", desc := "(I)Z" } : Jvm.MethodName)) ∈ lw_all := lw_g (lw_at lw_m10 212 rfl) rfl
theorem q2420 : (Jvm.Cond.methodLink "QuorumAlmanacModel" (149 : Nat) ({ cls := "QuorumAlmanacModel$Node", name := "entry", desc := "(I)LQuorumAlmanacModel$Entry;" } : Jvm.MethodName)) ∈ lw_all := lw_g (lw_at lw_m10 216 rfl) rfl
theorem q2422 : (Jvm.Cond.instanceMethod ({ cls := "QuorumAlmanacModel", name := "entryKind", desc := "(II)C" } : Jvm.MethodName)) ∈ lw_all := lw_g (lw_at lw_m10 218 rfl) rfl
theorem q2423 : (Jvm.Cond.selects "QuorumAlmanacModel" ({ cls := "QuorumAlmanacModel", name := "entryKind", desc := "(II)C" } : Jvm.MethodName) ({ cls := "QuorumAlmanacModel", name := "entryKind", desc := "(II)C" } : Jvm.MethodName)) ∈ lw_all := lw_g (lw_at lw_m10 219 rfl) rfl
theorem q2424 : (Jvm.Cond.code ({ cls := "QuorumAlmanacModel", name := "entryKind", desc := "(II)C" } : Jvm.MethodName) prog_19_method_28_code (3 : Nat) (Option.some Jvm.ClassFile.FieldType.char)) ∈ lw_all := lw_g (lw_at lw_m10 220 rfl) rfl
theorem q2426 : (Jvm.Cond.instanceMethod ({ cls := "QuorumAlmanacModel", name := "waiting", desc := "()I" } : Jvm.MethodName)) ∈ lw_all := lw_g (lw_at lw_m10 222 rfl) rfl
theorem q2427 : (Jvm.Cond.selects "QuorumAlmanacModel" ({ cls := "QuorumAlmanacModel", name := "waiting", desc := "()I" } : Jvm.MethodName) ({ cls := "QuorumAlmanacModel", name := "waiting", desc := "()I" } : Jvm.MethodName)) ∈ lw_all := lw_g (lw_at lw_m10 223 rfl) rfl
theorem q2428 : (Jvm.Cond.code ({ cls := "QuorumAlmanacModel", name := "waiting", desc := "()I" } : Jvm.MethodName) prog_19_method_29_code (1 : Nat) (Option.some Jvm.ClassFile.FieldType.int)) ∈ lw_all := lw_g (lw_at lw_m10 224 rfl) rfl
theorem q2430 : (Jvm.Cond.instanceMethod ({ cls := "QuorumAlmanacModel", name := "earliest", desc := "()I" } : Jvm.MethodName)) ∈ lw_all := lw_g (lw_at lw_m10 226 rfl) rfl
theorem q2431 : (Jvm.Cond.selects "QuorumAlmanacModel" ({ cls := "QuorumAlmanacModel", name := "earliest", desc := "()I" } : Jvm.MethodName) ({ cls := "QuorumAlmanacModel", name := "earliest", desc := "()I" } : Jvm.MethodName)) ∈ lw_all := lw_g (lw_at lw_m10 227 rfl) rfl
theorem q2432 : (Jvm.Cond.code ({ cls := "QuorumAlmanacModel", name := "earliest", desc := "()I" } : Jvm.MethodName) prog_19_method_30_code (1 : Nat) (Option.some Jvm.ClassFile.FieldType.int)) ∈ lw_all := lw_g (lw_at lw_m10 228 rfl) rfl
theorem q2433 : (Jvm.Cond.methodLink "QuorumAlmanacModel" (159 : Nat) ({ cls := "java/util/ArrayList", name := "isEmpty", desc := "()Z" } : Jvm.MethodName)) ∈ lw_all := lw_g (lw_at lw_m10 229 rfl) rfl
theorem q2434 : (Jvm.Cond.methodLink "QuorumAlmanacModel" (163 : Nat) ({ cls := "java/util/ArrayList", name := "get", desc := "(I)Ljava/lang/Object;" } : Jvm.MethodName)) ∈ lw_all := lw_g (lw_at lw_m10 230 rfl) rfl
theorem q2436 : (Jvm.Cond.instanceMethod ({ cls := "QuorumAlmanacModel", name := "kindOf", desc := "(I)C" } : Jvm.MethodName)) ∈ lw_all := lw_g (lw_at lw_m10 232 rfl) rfl
theorem q2437 : (Jvm.Cond.selects "QuorumAlmanacModel" ({ cls := "QuorumAlmanacModel", name := "kindOf", desc := "(I)C" } : Jvm.MethodName) ({ cls := "QuorumAlmanacModel", name := "kindOf", desc := "(I)C" } : Jvm.MethodName)) ∈ lw_all := lw_g (lw_at lw_m10 233 rfl) rfl
theorem q2438 : (Jvm.Cond.code ({ cls := "QuorumAlmanacModel", name := "kindOf", desc := "(I)C" } : Jvm.MethodName) prog_19_method_32_code (3 : Nat) (Option.some Jvm.ClassFile.FieldType.char)) ∈ lw_all := lw_g (lw_at lw_m10 234 rfl) rfl
theorem q2439 : (Jvm.Cond.methodLink "QuorumAlmanacModel" (182 : Nat) ({ cls := "QuorumAlmanacModel", name := "message", desc := "(I)LQuorumAlmanacModel$Message;" } : Jvm.MethodName)) ∈ lw_all := lw_g (lw_at lw_m10 235 rfl) rfl
theorem q2440 : (Jvm.Cond.privateMethod ({ cls := "QuorumAlmanacModel", name := "message", desc := "(I)LQuorumAlmanacModel$Message;" } : Jvm.MethodName)) ∈ lw_tbl := lw_at lw_m10 236 rfl
theorem q2441 : (Jvm.Cond.instanceMethod ({ cls := "QuorumAlmanacModel", name := "message", desc := "(I)LQuorumAlmanacModel$Message;" } : Jvm.MethodName)) ∈ lw_all := lw_g (lw_at lw_m10 237 rfl) rfl
theorem q2442 : (Jvm.Cond.code ({ cls := "QuorumAlmanacModel", name := "message", desc := "(I)LQuorumAlmanacModel$Message;" } : Jvm.MethodName) prog_19_method_31_code (5 : Nat) (Option.some (Jvm.ClassFile.FieldType.object "QuorumAlmanacModel$Message"))) ∈ lw_all := lw_g (lw_at lw_m10 238 rfl) rfl
theorem q2443 : (Jvm.Cond.methodLink "QuorumAlmanacModel" (169 : Nat) ({ cls := "java/util/ArrayList", name := "iterator", desc := "()Ljava/util/Iterator;" } : Jvm.MethodName)) ∈ lw_all := lw_g (lw_at lw_m10 239 rfl) rfl
theorem q2444 : (Jvm.Cond.interfaceEntry "QuorumAlmanacModel" (173 : Nat)) ∈ lw_tbl := lw_at lw_m11 0 rfl
theorem q2445 : (Jvm.Cond.methodLink "QuorumAlmanacModel" (173 : Nat) ({ cls := "java/util/Iterator", name := "hasNext", desc := "()Z" } : Jvm.MethodName)) ∈ lw_all := lw_g (lw_at lw_m11 1 rfl) rfl
theorem q2446 : (Jvm.Cond.interfaceEntry "QuorumAlmanacModel" (178 : Nat)) ∈ lw_tbl := lw_at lw_m11 2 rfl
theorem q2447 : (Jvm.Cond.methodLink "QuorumAlmanacModel" (178 : Nat) ({ cls := "java/util/Iterator", name := "next", desc := "()Ljava/lang/Object;" } : Jvm.MethodName)) ∈ lw_all := lw_g (lw_at lw_m11 3 rfl) rfl
theorem q2449 : (Jvm.Cond.instanceMethod ({ cls := "QuorumAlmanacModel", name := "between", desc := "(I)I" } : Jvm.MethodName)) ∈ lw_all := lw_g (lw_at lw_m11 5 rfl) rfl
theorem q2450 : (Jvm.Cond.selects "QuorumAlmanacModel" ({ cls := "QuorumAlmanacModel", name := "between", desc := "(I)I" } : Jvm.MethodName) ({ cls := "QuorumAlmanacModel", name := "between", desc := "(I)I" } : Jvm.MethodName)) ∈ lw_all := lw_g (lw_at lw_m11 6 rfl) rfl
theorem q2451 : (Jvm.Cond.code ({ cls := "QuorumAlmanacModel", name := "between", desc := "(I)I" } : Jvm.MethodName) prog_19_method_33_code (3 : Nat) (Option.some Jvm.ClassFile.FieldType.int)) ∈ lw_all := lw_g (lw_at lw_m11 7 rfl) rfl
theorem q2453 : (Jvm.Cond.instanceMethod ({ cls := "QuorumAlmanacModel", name := "deliver", desc := "(I)I" } : Jvm.MethodName)) ∈ lw_all := lw_g (lw_at lw_m11 9 rfl) rfl
theorem q2454 : (Jvm.Cond.selects "QuorumAlmanacModel" ({ cls := "QuorumAlmanacModel", name := "deliver", desc := "(I)I" } : Jvm.MethodName) ({ cls := "QuorumAlmanacModel", name := "deliver", desc := "(I)I" } : Jvm.MethodName)) ∈ lw_all := lw_g (lw_at lw_m11 10 rfl) rfl
theorem q2455 : (Jvm.Cond.code ({ cls := "QuorumAlmanacModel", name := "deliver", desc := "(I)I" } : Jvm.MethodName) prog_19_method_34_code (4 : Nat) (Option.some Jvm.ClassFile.FieldType.int)) ∈ lw_all := lw_g (lw_at lw_m11 11 rfl) rfl
theorem q2456 : (Jvm.Cond.methodLink "QuorumAlmanacModel" (193 : Nat) ({ cls := "java/util/ArrayList", name := "remove", desc := "(Ljava/lang/Object;)Z" } : Jvm.MethodName)) ∈ lw_all := lw_g (lw_at lw_m11 12 rfl) rfl
theorem q2457 : (Jvm.Cond.methodLink "QuorumAlmanacModel" (199 : Nat) ({ cls := "QuorumAlmanacModel$Node", name := "handles", desc := "(LQuorumAlmanacModel$Message;)V" } : Jvm.MethodName)) ∈ lw_all := lw_g (lw_at lw_m11 13 rfl) rfl
theorem q2491 : (Jvm.Cond.instanceMethod ({ cls := "QuorumAlmanacModel", name := "lose", desc := "(I)I" } : Jvm.MethodName)) ∈ lw_all := lw_g (lw_at lw_m11 47 rfl) rfl
theorem q2492 : (Jvm.Cond.selects "QuorumAlmanacModel" ({ cls := "QuorumAlmanacModel", name := "lose", desc := "(I)I" } : Jvm.MethodName) ({ cls := "QuorumAlmanacModel", name := "lose", desc := "(I)I" } : Jvm.MethodName)) ∈ lw_all := lw_g (lw_at lw_m11 48 rfl) rfl
theorem q2493 : (Jvm.Cond.code ({ cls := "QuorumAlmanacModel", name := "lose", desc := "(I)I" } : Jvm.MethodName) prog_19_method_35_code (4 : Nat) (Option.some Jvm.ClassFile.FieldType.int)) ∈ lw_all := lw_g (lw_at lw_m11 49 rfl) rfl
theorem q2495 : (Jvm.Cond.instanceMethod ({ cls := "QuorumAlmanacModel", name := "copy", desc := "(I)I" } : Jvm.MethodName)) ∈ lw_all := lw_g (lw_at lw_m11 51 rfl) rfl
theorem q2496 : (Jvm.Cond.selects "QuorumAlmanacModel" ({ cls := "QuorumAlmanacModel", name := "copy", desc := "(I)I" } : Jvm.MethodName) ({ cls := "QuorumAlmanacModel", name := "copy", desc := "(I)I" } : Jvm.MethodName)) ∈ lw_all := lw_g (lw_at lw_m11 52 rfl) rfl
theorem q2497 : (Jvm.Cond.code ({ cls := "QuorumAlmanacModel", name := "copy", desc := "(I)I" } : Jvm.MethodName) prog_19_method_36_code (4 : Nat) (Option.some Jvm.ClassFile.FieldType.int)) ∈ lw_all := lw_g (lw_at lw_m11 53 rfl) rfl
theorem q2498 : (Jvm.Cond.methodLink "QuorumAlmanacModel" (202 : Nat) ({ cls := "QuorumAlmanacModel$Message", name := "copy", desc := "(I)LQuorumAlmanacModel$Message;" } : Jvm.MethodName)) ∈ lw_all := lw_g (lw_at lw_m11 54 rfl) rfl
theorem q2505 : (Jvm.Cond.instanceMethod ({ cls := "QuorumAlmanacModel", name := "write", desc := "(III)I" } : Jvm.MethodName)) ∈ lw_all := lw_g (lw_at lw_m11 61 rfl) rfl
theorem q2506 : (Jvm.Cond.selects "QuorumAlmanacModel" ({ cls := "QuorumAlmanacModel", name := "write", desc := "(III)I" } : Jvm.MethodName) ({ cls := "QuorumAlmanacModel", name := "write", desc := "(III)I" } : Jvm.MethodName)) ∈ lw_all := lw_g (lw_at lw_m11 62 rfl) rfl
theorem q2507 : (Jvm.Cond.code ({ cls := "QuorumAlmanacModel", name := "write", desc := "(III)I" } : Jvm.MethodName) prog_19_method_39_code (4 : Nat) (Option.some Jvm.ClassFile.FieldType.int)) ∈ lw_all := lw_g (lw_at lw_m11 63 rfl) rfl
theorem q2508 : (Jvm.Cond.methodLink "QuorumAlmanacModel" (212 : Nat) ({ cls := "QuorumAlmanacModel", name := "failsLeader", desc := "(IZI)Z" } : Jvm.MethodName)) ∈ lw_all := lw_g (lw_at lw_m11 64 rfl) rfl
theorem q2509 : (Jvm.Cond.privateMethod ({ cls := "QuorumAlmanacModel", name := "failsLeader", desc := "(IZI)Z" } : Jvm.MethodName)) ∈ lw_tbl := lw_at lw_m11 65 rfl
theorem q2510 : (Jvm.Cond.instanceMethod ({ cls := "QuorumAlmanacModel", name := "failsLeader", desc := "(IZI)Z" } : Jvm.MethodName)) ∈ lw_all := lw_g (lw_at lw_m11 66 rfl) rfl
theorem q2511 : (Jvm.Cond.code ({ cls := "QuorumAlmanacModel", name := "failsLeader", desc := "(IZI)Z" } : Jvm.MethodName) prog_19_method_37_code (5 : Nat) (Option.some Jvm.ClassFile.FieldType.boolean)) ∈ lw_all := lw_g (lw_at lw_m11 67 rfl) rfl
theorem q2512 : (Jvm.Cond.methodLink "QuorumAlmanacModel" (216 : Nat) ({ cls := "QuorumAlmanacModel", name := "proposes", desc := "(ICII)I" } : Jvm.MethodName)) ∈ lw_all := lw_g (lw_at lw_m11 68 rfl) rfl
theorem q2513 : (Jvm.Cond.privateMethod ({ cls := "QuorumAlmanacModel", name := "proposes", desc := "(ICII)I" } : Jvm.MethodName)) ∈ lw_tbl := lw_at lw_m11 69 rfl
theorem q2514 : (Jvm.Cond.instanceMethod ({ cls := "QuorumAlmanacModel", name := "proposes", desc := "(ICII)I" } : Jvm.MethodName)) ∈ lw_all := lw_g (lw_at lw_m11 70 rfl) rfl
theorem q2515 : (Jvm.Cond.code ({ cls := "QuorumAlmanacModel", name := "proposes", desc := "(ICII)I" } : Jvm.MethodName) prog_19_method_38_code (8 : Nat) (Option.some Jvm.ClassFile.FieldType.int)) ∈ lw_all := lw_g (lw_at lw_m11 71 rfl) rfl
theorem q2516 : (Jvm.Cond.classLink "QuorumAlmanacModel" (154 : Nat) "QuorumAlmanacModel$Entry") ∈ lw_all := lw_g (lw_at lw_m11 72 rfl) rfl
theorem q2517 : (Jvm.Cond.methodLink "QuorumAlmanacModel" (208 : Nat) ({ cls := "QuorumAlmanacModel$Entry", name := "<init>", desc := "(ICII)V" } : Jvm.MethodName)) ∈ lw_all := lw_g (lw_at lw_m11 73 rfl) rfl
theorem q2518 : (Jvm.Cond.methodLink "QuorumAlmanacModel" (209 : Nat) ({ cls := "QuorumAlmanacModel$Node", name := "beginsRound", desc := "()V" } : Jvm.MethodName)) ∈ lw_all := lw_g (lw_at lw_m11 74 rfl) rfl
theorem q2520 : (Jvm.Cond.instanceMethod ({ cls := "QuorumAlmanacModel", name := "reshape", desc := "(IIZ)I" } : Jvm.MethodName)) ∈ lw_all := lw_g (lw_at lw_m11 76 rfl) rfl
theorem q2521 : (Jvm.Cond.selects "QuorumAlmanacModel" ({ cls := "QuorumAlmanacModel", name := "reshape", desc := "(IIZ)I" } : Jvm.MethodName) ({ cls := "QuorumAlmanacModel", name := "reshape", desc := "(IIZ)I" } : Jvm.MethodName)) ∈ lw_all := lw_g (lw_at lw_m11 77 rfl) rfl
theorem q2522 : (Jvm.Cond.code ({ cls := "QuorumAlmanacModel", name := "reshape", desc := "(IIZ)I" } : Jvm.MethodName) prog_19_method_40_code (4 : Nat) (Option.some Jvm.ClassFile.FieldType.int)) ∈ lw_all := lw_g (lw_at lw_m11 78 rfl) rfl
theorem q2524 : (Jvm.Cond.instanceMethod ({ cls := "QuorumAlmanacModel", name := "change", desc := "(II)I" } : Jvm.MethodName)) ∈ lw_all := lw_g (lw_at lw_m11 80 rfl) rfl
theorem q2525 : (Jvm.Cond.selects "QuorumAlmanacModel" ({ cls := "QuorumAlmanacModel", name := "change", desc := "(II)I" } : Jvm.MethodName) ({ cls := "QuorumAlmanacModel", name := "change", desc := "(II)I" } : Jvm.MethodName)) ∈ lw_all := lw_g (lw_at lw_m11 81 rfl) rfl
theorem q2526 : (Jvm.Cond.code ({ cls := "QuorumAlmanacModel", name := "change", desc := "(II)I" } : Jvm.MethodName) prog_19_method_41_code (6 : Nat) (Option.some Jvm.ClassFile.FieldType.int)) ∈ lw_all := lw_g (lw_at lw_m11 82 rfl) rfl
theorem q2527 : (Jvm.Cond.methodLink "QuorumAlmanacModel" (220 : Nat) ({ cls := "QuorumAlmanacModel$Node", name := "latestChange", desc := "(I)I" } : Jvm.MethodName)) ∈ lw_all := lw_g (lw_at lw_m11 83 rfl) rfl
theorem q2528 : (Jvm.Cond.methodLink "QuorumAlmanacModel" (223 : Nat) ({ cls := "QuorumAlmanacModel$Node", name := "fresh", desc := "(I)I" } : Jvm.MethodName)) ∈ lw_all := lw_g (lw_at lw_m11 84 rfl) rfl
theorem q2529 : (Jvm.Cond.methodLink "QuorumAlmanacModel" (226 : Nat) ({ cls := "QuorumAlmanacModel$Node", name := "hasOwnCommitted", desc := "()Z" } : Jvm.MethodName)) ∈ lw_all := lw_g (lw_at lw_m11 85 rfl) rfl
theorem q2530 : (Jvm.Cond.methodLink "QuorumAlmanacModel" (229 : Nat) ({ cls := "QuorumAlmanacModel$Node", name := "old", desc := "(I)I" } : Jvm.MethodName)) ∈ lw_all := lw_g (lw_at lw_m11 86 rfl) rfl
theorem q2532 : (Jvm.Cond.instanceMethod ({ cls := "QuorumAlmanacModel", name := "hasLease", desc := "(I)Z" } : Jvm.MethodName)) ∈ lw_all := lw_g (lw_at lw_m11 88 rfl) rfl
theorem q2533 : (Jvm.Cond.selects "QuorumAlmanacModel" ({ cls := "QuorumAlmanacModel", name := "hasLease", desc := "(I)Z" } : Jvm.MethodName) ({ cls := "QuorumAlmanacModel", name := "hasLease", desc := "(I)Z" } : Jvm.MethodName)) ∈ lw_all := lw_g (lw_at lw_m11 89 rfl) rfl
theorem q2534 : (Jvm.Cond.code ({ cls := "QuorumAlmanacModel", name := "hasLease", desc := "(I)Z" } : Jvm.MethodName) prog_19_method_42_code (2 : Nat) (Option.some Jvm.ClassFile.FieldType.boolean)) ∈ lw_all := lw_g (lw_at lw_m11 90 rfl) rfl
theorem q2535 : (Jvm.Cond.methodLink "QuorumAlmanacModel" (232 : Nat) ({ cls := "QuorumAlmanacModel$Node", name := "hasLease", desc := "()Z" } : Jvm.MethodName)) ∈ lw_all := lw_g (lw_at lw_m11 91 rfl) rfl
theorem q2537 : (Jvm.Cond.instanceMethod ({ cls := "QuorumAlmanacModel", name := "readByLease", desc := "(II)I" } : Jvm.MethodName)) ∈ lw_all := lw_g (lw_at lw_m11 93 rfl) rfl
theorem q2538 : (Jvm.Cond.selects "QuorumAlmanacModel" ({ cls := "QuorumAlmanacModel", name := "readByLease", desc := "(II)I" } : Jvm.MethodName) ({ cls := "QuorumAlmanacModel", name := "readByLease", desc := "(II)I" } : Jvm.MethodName)) ∈ lw_all := lw_g (lw_at lw_m11 94 rfl) rfl
theorem q2539 : (Jvm.Cond.code ({ cls := "QuorumAlmanacModel", name := "readByLease", desc := "(II)I" } : Jvm.MethodName) prog_19_method_43_code (3 : Nat) (Option.some Jvm.ClassFile.FieldType.int)) ∈ lw_all := lw_g (lw_at lw_m11 95 rfl) rfl
theorem q2541 : (Jvm.Cond.instanceMethod ({ cls := "QuorumAlmanacModel", name := "askRead", desc := "(II)I" } : Jvm.MethodName)) ∈ lw_all := lw_g (lw_at lw_m11 97 rfl) rfl
theorem q2542 : (Jvm.Cond.selects "QuorumAlmanacModel" ({ cls := "QuorumAlmanacModel", name := "askRead", desc := "(II)I" } : Jvm.MethodName) ({ cls := "QuorumAlmanacModel", name := "askRead", desc := "(II)I" } : Jvm.MethodName)) ∈ lw_all := lw_g (lw_at lw_m11 98 rfl) rfl
theorem q2543 : (Jvm.Cond.code ({ cls := "QuorumAlmanacModel", name := "askRead", desc := "(II)I" } : Jvm.MethodName) prog_19_method_44_code (7 : Nat) (Option.some Jvm.ClassFile.FieldType.int)) ∈ lw_all := lw_g (lw_at lw_m11 99 rfl) rfl
theorem q2544 : (Jvm.Cond.classLink "QuorumAlmanacModel" (245 : Nat) "QuorumAlmanacModel$Read") ∈ lw_all := lw_g (lw_at lw_m11 100 rfl) rfl
theorem q2546 : (Jvm.Cond.methodLink "QuorumAlmanacModel" (253 : Nat) ({ cls := "QuorumAlmanacModel$Read", name := "<init>", desc := "(IIII)V" } : Jvm.MethodName)) ∈ lw_all := lw_g (lw_at lw_m11 102 rfl) rfl
theorem q2559 : (Jvm.Cond.fieldLinkNest "QuorumAlmanacModel" (247 : Nat) "QuorumAlmanacModel$Read" "state" "C" "QuorumAlmanacModel") ∈ lw_tbl := lw_at lw_m11 115 rfl
theorem q2561 : (Jvm.Cond.fieldLinkNest "QuorumAlmanacModel" (259 : Nat) "QuorumAlmanacModel$Read" "value" "I" "QuorumAlmanacModel") ∈ lw_tbl := lw_at lw_m11 117 rfl
theorem q2575 : (Jvm.Cond.methodLink "QuorumAlmanacModel" (256 : Nat) ({ cls := "QuorumAlmanacModel$Node", name := "looksAtReads", desc := "()V" } : Jvm.MethodName)) ∈ lw_all := lw_g (lw_at lw_m11 131 rfl) rfl
theorem q2577 : (Jvm.Cond.instanceMethod ({ cls := "QuorumAlmanacModel", name := "readState", desc := "(I)C" } : Jvm.MethodName)) ∈ lw_all := lw_g (lw_at lw_m11 133 rfl) rfl
theorem q2578 : (Jvm.Cond.selects "QuorumAlmanacModel" ({ cls := "QuorumAlmanacModel", name := "readState", desc := "(I)C" } : Jvm.MethodName) ({ cls := "QuorumAlmanacModel", name := "readState", desc := "(I)C" } : Jvm.MethodName)) ∈ lw_all := lw_g (lw_at lw_m11 134 rfl) rfl
theorem q2579 : (Jvm.Cond.code ({ cls := "QuorumAlmanacModel", name := "readState", desc := "(I)C" } : Jvm.MethodName) prog_19_method_45_code (2 : Nat) (Option.some Jvm.ClassFile.FieldType.char)) ∈ lw_all := lw_g (lw_at lw_m11 135 rfl) rfl
theorem q2581 : (Jvm.Cond.instanceMethod ({ cls := "QuorumAlmanacModel", name := "readValue", desc := "(I)I" } : Jvm.MethodName)) ∈ lw_all := lw_g (lw_at lw_m11 137 rfl) rfl
theorem q2582 : (Jvm.Cond.selects "QuorumAlmanacModel" ({ cls := "QuorumAlmanacModel", name := "readValue", desc := "(I)I" } : Jvm.MethodName) ({ cls := "QuorumAlmanacModel", name := "readValue", desc := "(I)I" } : Jvm.MethodName)) ∈ lw_all := lw_g (lw_at lw_m11 138 rfl) rfl
theorem q2583 : (Jvm.Cond.code ({ cls := "QuorumAlmanacModel", name := "readValue", desc := "(I)I" } : Jvm.MethodName) prog_19_method_46_code (3 : Nat) (Option.some Jvm.ClassFile.FieldType.int)) ∈ lw_all := lw_g (lw_at lw_m11 139 rfl) rfl
theorem q2585 : (Jvm.Cond.instanceMethod ({ cls := "QuorumAlmanacModel", name := "readStale", desc := "(II)I" } : Jvm.MethodName)) ∈ lw_all := lw_g (lw_at lw_m11 141 rfl) rfl
theorem q2586 : (Jvm.Cond.selects "QuorumAlmanacModel" ({ cls := "QuorumAlmanacModel", name := "readStale", desc := "(II)I" } : Jvm.MethodName) ({ cls := "QuorumAlmanacModel", name := "readStale", desc := "(II)I" } : Jvm.MethodName)) ∈ lw_all := lw_g (lw_at lw_m11 142 rfl) rfl
theorem q2587 : (Jvm.Cond.code ({ cls := "QuorumAlmanacModel", name := "readStale", desc := "(II)I" } : Jvm.MethodName) prog_19_method_48_code (3 : Nat) (Option.some Jvm.ClassFile.FieldType.int)) ∈ lw_all := lw_g (lw_at lw_m11 143 rfl) rfl
theorem q2588 : (Jvm.Cond.methodLink "QuorumAlmanacModel" (262 : Nat) ({ cls := "QuorumAlmanacModel", name := "failsKey", desc := "(II)Z" } : Jvm.MethodName)) ∈ lw_all := lw_g (lw_at lw_m11 144 rfl) rfl
theorem q2589 : (Jvm.Cond.privateMethod ({ cls := "QuorumAlmanacModel", name := "failsKey", desc := "(II)Z" } : Jvm.MethodName)) ∈ lw_tbl := lw_at lw_m11 145 rfl
theorem q2590 : (Jvm.Cond.instanceMethod ({ cls := "QuorumAlmanacModel", name := "failsKey", desc := "(II)Z" } : Jvm.MethodName)) ∈ lw_all := lw_g (lw_at lw_m11 146 rfl) rfl
theorem q2591 : (Jvm.Cond.code ({ cls := "QuorumAlmanacModel", name := "failsKey", desc := "(II)Z" } : Jvm.MethodName) prog_19_method_47_code (3 : Nat) (Option.some Jvm.ClassFile.FieldType.boolean)) ∈ lw_all := lw_g (lw_at lw_m11 147 rfl) rfl
theorem q2593 : (Jvm.Cond.instanceMethod ({ cls := "QuorumAlmanacModel", name := "rangeOf", desc := "(II)I" } : Jvm.MethodName)) ∈ lw_all := lw_g (lw_at lw_m11 149 rfl) rfl
theorem q2594 : (Jvm.Cond.selects "QuorumAlmanacModel" ({ cls := "QuorumAlmanacModel", name := "rangeOf", desc := "(II)I" } : Jvm.MethodName) ({ cls := "QuorumAlmanacModel", name := "rangeOf", desc := "(II)I" } : Jvm.MethodName)) ∈ lw_all := lw_g (lw_at lw_m11 150 rfl) rfl
theorem q2595 : (Jvm.Cond.code ({ cls := "QuorumAlmanacModel", name := "rangeOf", desc := "(II)I" } : Jvm.MethodName) prog_19_method_49_code (3 : Nat) (Option.some Jvm.ClassFile.FieldType.int)) ∈ lw_all := lw_g (lw_at lw_m11 151 rfl) rfl
theorem q2596 : (Jvm.Cond.methodLink "QuorumAlmanacModel" (265 : Nat) ({ cls := "QuorumAlmanacModel$Store", name := "first", desc := "(I)I" } : Jvm.MethodName)) ∈ lw_all := lw_g (lw_at lw_m11 152 rfl) rfl
theorem q2598 : (Jvm.Cond.instanceMethod ({ cls := "QuorumAlmanacModel", name := "load", desc := "(II)I" } : Jvm.MethodName)) ∈ lw_all := lw_g (lw_at lw_m11 154 rfl) rfl
theorem q2599 : (Jvm.Cond.selects "QuorumAlmanacModel" ({ cls := "QuorumAlmanacModel", name := "load", desc := "(II)I" } : Jvm.MethodName) ({ cls := "QuorumAlmanacModel", name := "load", desc := "(II)I" } : Jvm.MethodName)) ∈ lw_all := lw_g (lw_at lw_m11 155 rfl) rfl
theorem q2600 : (Jvm.Cond.code ({ cls := "QuorumAlmanacModel", name := "load", desc := "(II)I" } : Jvm.MethodName) prog_19_method_50_code (3 : Nat) (Option.some Jvm.ClassFile.FieldType.int)) ∈ lw_all := lw_g (lw_at lw_m11 156 rfl) rfl
theorem q2602 : (Jvm.Cond.instanceMethod ({ cls := "QuorumAlmanacModel", name := "history", desc := "()I" } : Jvm.MethodName)) ∈ lw_all := lw_g (lw_at lw_m11 158 rfl) rfl
theorem q2603 : (Jvm.Cond.selects "QuorumAlmanacModel" ({ cls := "QuorumAlmanacModel", name := "history", desc := "()I" } : Jvm.MethodName) ({ cls := "QuorumAlmanacModel", name := "history", desc := "()I" } : Jvm.MethodName)) ∈ lw_all := lw_g (lw_at lw_m11 159 rfl) rfl
theorem q2604 : (Jvm.Cond.code ({ cls := "QuorumAlmanacModel", name := "history", desc := "()I" } : Jvm.MethodName) prog_19_method_51_code (1 : Nat) (Option.some Jvm.ClassFile.FieldType.int)) ∈ lw_all := lw_g (lw_at lw_m11 160 rfl) rfl
theorem q2606 : (Jvm.Cond.instanceMethod ({ cls := "QuorumAlmanacModel", name := "valueByHistory", desc := "(I)I" } : Jvm.MethodName)) ∈ lw_all := lw_g (lw_at lw_m11 162 rfl) rfl
theorem q2607 : (Jvm.Cond.selects "QuorumAlmanacModel" ({ cls := "QuorumAlmanacModel", name := "valueByHistory", desc := "(I)I" } : Jvm.MethodName) ({ cls := "QuorumAlmanacModel", name := "valueByHistory", desc := "(I)I" } : Jvm.MethodName)) ∈ lw_all := lw_g (lw_at lw_m11 163 rfl) rfl
theorem q2608 : (Jvm.Cond.code ({ cls := "QuorumAlmanacModel", name := "valueByHistory", desc := "(I)I" } : Jvm.MethodName) prog_19_method_52_code (5 : Nat) (Option.some Jvm.ClassFile.FieldType.int)) ∈ lw_all := lw_g (lw_at lw_m11 164 rfl) rfl
theorem q2610 : (Jvm.Cond.instanceMethod ({ cls := "QuorumAlmanacModel", name := "delivered", desc := "()J" } : Jvm.MethodName)) ∈ lw_all := lw_g (lw_at lw_m11 166 rfl) rfl
theorem q2611 : (Jvm.Cond.selects "QuorumAlmanacModel" ({ cls := "QuorumAlmanacModel", name := "delivered", desc := "()J" } : Jvm.MethodName) ({ cls := "QuorumAlmanacModel", name := "delivered", desc := "()J" } : Jvm.MethodName)) ∈ lw_all := lw_g (lw_at lw_m11 167 rfl) rfl
theorem q2612 : (Jvm.Cond.code ({ cls := "QuorumAlmanacModel", name := "delivered", desc := "()J" } : Jvm.MethodName) prog_19_method_53_code (1 : Nat) (Option.some Jvm.ClassFile.FieldType.long)) ∈ lw_all := lw_g (lw_at lw_m11 168 rfl) rfl
theorem q2614 : (Jvm.Cond.instanceMethod ({ cls := "QuorumAlmanacModel", name := "refusedShare", desc := "()F" } : Jvm.MethodName)) ∈ lw_all := lw_g (lw_at lw_m11 170 rfl) rfl
theorem q2615 : (Jvm.Cond.selects "QuorumAlmanacModel" ({ cls := "QuorumAlmanacModel", name := "refusedShare", desc := "()F" } : Jvm.MethodName) ({ cls := "QuorumAlmanacModel", name := "refusedShare", desc := "()F" } : Jvm.MethodName)) ∈ lw_all := lw_g (lw_at lw_m11 171 rfl) rfl
theorem q2616 : (Jvm.Cond.code ({ cls := "QuorumAlmanacModel", name := "refusedShare", desc := "()F" } : Jvm.MethodName) prog_19_method_54_code (1 : Nat) (Option.some Jvm.ClassFile.FieldType.float)) ∈ lw_all := lw_g (lw_at lw_m11 172 rfl) rfl
theorem q2618 : (Jvm.Cond.instanceMethod ({ cls := "QuorumAlmanacModel", name := "meanLast", desc := "()D" } : Jvm.MethodName)) ∈ lw_all := lw_g (lw_at lw_m11 174 rfl) rfl
theorem q2619 : (Jvm.Cond.selects "QuorumAlmanacModel" ({ cls := "QuorumAlmanacModel", name := "meanLast", desc := "()D" } : Jvm.MethodName) ({ cls := "QuorumAlmanacModel", name := "meanLast", desc := "()D" } : Jvm.MethodName)) ∈ lw_all := lw_g (lw_at lw_m11 175 rfl) rfl
theorem q2620 : (Jvm.Cond.code ({ cls := "QuorumAlmanacModel", name := "meanLast", desc := "()D" } : Jvm.MethodName) prog_19_method_55_code (6 : Nat) (Option.some Jvm.ClassFile.FieldType.double)) ∈ lw_all := lw_g (lw_at lw_m11 176 rfl) rfl
theorem q2621 : (Jvm.Cond.constantDouble "QuorumAlmanacModel" (280 : Nat) (4617315517961601024 : UInt64)) ∈ lw_all := lw_g (lw_at lw_m11 177 rfl) rfl
theorem q2623 : (Jvm.Cond.instanceMethod ({ cls := "QuorumAlmanacModel", name := "isSound", desc := "()Z" } : Jvm.MethodName)) ∈ lw_all := lw_g (lw_at lw_m11 179 rfl) rfl
theorem q2624 : (Jvm.Cond.selects "QuorumAlmanacModel" ({ cls := "QuorumAlmanacModel", name := "isSound", desc := "()Z" } : Jvm.MethodName) ({ cls := "QuorumAlmanacModel", name := "isSound", desc := "()Z" } : Jvm.MethodName)) ∈ lw_all := lw_g (lw_at lw_m11 180 rfl) rfl
theorem q2625 : (Jvm.Cond.code ({ cls := "QuorumAlmanacModel", name := "isSound", desc := "()Z" } : Jvm.MethodName) prog_19_method_56_code (1 : Nat) (Option.some Jvm.ClassFile.FieldType.boolean)) ∈ lw_all := lw_g (lw_at lw_m11 181 rfl) rfl
theorem q2645 : (Jvm.Cond.castable "QuorumAlmanacModel" "java/lang/Object") ∈ lw_tbl := lw_at lw_m11 201 rfl
theorem in_X6 : ∀ w ∈ wsX60, w ∈ lw_all := lw_in wsX60 [2082, 2084, 2086, 2088, 2090, 2092, 2094, 2096, 2098] (by decide +kernel) (by decide +kernel)
