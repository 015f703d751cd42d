/-! QuorumAlmanac$Node -/
set_option maxRecDepth 100000
def RX2 : String := "QuorumAlmanac$Node"
def TX2 : u_T := fun k => match k with
  | 0 => ("QuorumAlmanac$Node", "number", "I", true)
  | 1 => ("QuorumAlmanac$Node", "runs", "Z", false)
  | 2 => ("QuorumAlmanac$Node", "role", "C", false)
  | 3 => ("QuorumAlmanac$Node", "clock", "I", false)
  | 4 => ("QuorumAlmanac$Node", "term", "I", false)
  | 5 => ("QuorumAlmanac$Node", "vote", "I", false)
  | 6 => ("QuorumAlmanac$Node", "heard", "I", false)
  | 7 => ("QuorumAlmanac$Node", "boundAt", "I", false)
  | 8 => ("QuorumAlmanac$Node", "snapshot", "LQuorumAlmanac$Snapshot;", false)
  | 9 => ("QuorumAlmanac$Node", "log", "Ljava/util/ArrayList;", false)
  | 10 => ("QuorumAlmanac$Node", "synced", "I", false)
  | 11 => ("QuorumAlmanac$Node", "committed", "I", false)
  | 12 => ("QuorumAlmanac$Node", "store", "LQuorumAlmanac$Store;", false)
  | 13 => ("QuorumAlmanac$Node", "agreed", "I", false)
  | 14 => ("QuorumAlmanac$Node", "leader", "I", false)
  | 15 => ("QuorumAlmanac$Node", "lastRound", "I", false)
  | 16 => ("QuorumAlmanac$Node", "voices", "I", false)
  | 17 => ("QuorumAlmanac$Node", "next", "[I", true)
  | 18 => ("QuorumAlmanac$Node", "agreeing", "[I", true)
  | 19 => ("QuorumAlmanac$Node", "answered", "[I", true)
  | 20 => ("QuorumAlmanac$Node", "roundClocks", "Ljava/util/ArrayList;", true)
  | _ => ("QuorumAlmanac$Node", "this$0", "LQuorumAlmanac;", true)
def tyX2 : Nat → FieldType := fun k => match k with
  | 0 => .int
  | 1 => .boolean
  | 2 => .char
  | 3 => .int
  | 4 => .int
  | 5 => .int
  | 6 => .int
  | 7 => .int
  | 8 => .object "QuorumAlmanac$Snapshot"
  | 9 => .object "java/util/ArrayList"
  | 10 => .int
  | 11 => .int
  | 12 => .object "QuorumAlmanac$Store"
  | 13 => .int
  | 14 => .int
  | 15 => .int
  | 16 => .int
  | 17 => .array .int
  | 18 => .array .int
  | 19 => .array .int
  | 20 => .object "java/util/ArrayList"
  | _ => .object "QuorumAlmanac"
abbrev wsX20 : List Cond := u_ws RX2 TX2 22
set_option maxRecDepth 100000 in
theorem nmX2 : ∀ a, a < 22 → ∀ b, b < 22 → a ≠ b → (TX2 a).2.1 ≠ (TX2 b).2.1 := by decide +kernel
set_option maxRecDepth 100000 in
theorem tyX2_ok : ∀ k, k < 22 → parseFieldDescriptor (TX2 k).2.2.1 = some (tyX2 k) := by decide +kernel
abbrev cX2_last : ByteArray := prog_9_method_2_code
def yX2_last : MethodName := ⟨RX2, "last", "()I"⟩
def dkwX2_last_0 : List UInt8 := [42, 180, 0, 68, 180, 0, 72, 42, 180, 0, 33, 182, 0, 75, 96, 172]
abbrev dktX2_last_0 : List UInt8 := dkwX2_last_0 ++ []
theorem dksX2_last_0 : cX2_last.data.toList.drop 0 = dktX2_last_0 := by decide +kernel
theorem dX2_last_0 : decode cX2_last 0 = .ok (.aload_n 0, 1) := dk_42 (dk_at dksX2_last_0 0 rfl rfl)
theorem dX2_last_1 : decode cX2_last 1 = .ok (.getfield 68, 3) := dk_180 0 68 (dk_at dksX2_last_0 1 rfl rfl)
theorem dX2_last_4 : decode cX2_last 4 = .ok (.getfield 72, 3) := dk_180 0 72 (dk_at dksX2_last_0 4 rfl rfl)
theorem dX2_last_7 : decode cX2_last 7 = .ok (.aload_n 0, 1) := dk_42 (dk_at dksX2_last_0 7 rfl rfl)
theorem dX2_last_8 : decode cX2_last 8 = .ok (.getfield 33, 3) := dk_180 0 33 (dk_at dksX2_last_0 8 rfl rfl)
theorem dX2_last_11 : decode cX2_last 11 = .ok (.invokevirtual 75, 3) := dk_182 0 75 (dk_at dksX2_last_0 11 rfl rfl)
theorem dX2_last_14 : decode cX2_last 14 = .ok (.iadd, 1) := dk_96 (dk_at dksX2_last_0 14 rfl rfl)
theorem dX2_last_15 : decode cX2_last 15 = .ok (.ireturn, 1) := dk_172 (dk_at dksX2_last_0 15 rfl rfl)
abbrev cX2_init : ByteArray := prog_9_method_1_code
def yX2_init : MethodName := ⟨RX2, "<init>", "(LQuorumAlmanac;ILQuorumAlmanac$Members;)V"⟩
def dkwX2_init_5 : List UInt8 := [181, 0, 68, 177]
abbrev dktX2_init_5 : List UInt8 := dkwX2_init_5 ++ []
def dkwX2_init_4 : List UInt8 := [28, 181, 0, 60, 42, 187, 0, 63, 89, 3, 3, 45, 187, 0, 37, 89, 183, 0, 39, 183, 0, 65]
abbrev dktX2_init_4 : List UInt8 := dkwX2_init_4 ++ dktX2_init_5
def dkwX2_init_3 : List UInt8 := [188, 10, 181, 0, 51, 42, 8, 188, 10, 181, 0, 54, 42, 187, 0, 30, 89, 183, 0, 32, 181, 0, 57, 42]
abbrev dktX2_init_3 : List UInt8 := dkwX2_init_3 ++ dktX2_init_4
def dkwX2_init_2 : List UInt8 := [187, 0, 37, 89, 183, 0, 39, 181, 0, 40, 42, 2, 181, 0, 44, 42, 8, 188, 10, 181, 0, 47, 42, 8]
abbrev dktX2_init_2 : List UInt8 := dkwX2_init_2 ++ dktX2_init_3
def dkwX2_init_1 : List UInt8 := [181, 0, 23, 42, 17, 252, 24, 181, 0, 27, 42, 187, 0, 30, 89, 183, 0, 32, 181, 0, 33, 42]
abbrev dktX2_init_1 : List UInt8 := dkwX2_init_1 ++ dktX2_init_2
def dkwX2_init_0 : List UInt8 := [42, 43, 181, 0, 3, 42, 183, 0, 9, 42, 4, 181, 0, 15, 42, 16, 102, 181, 0, 19, 42, 2]
abbrev dktX2_init_0 : List UInt8 := dkwX2_init_0 ++ dktX2_init_1
theorem dksX2_init_0 : cX2_init.data.toList.drop 0 = dktX2_init_0 := by decide +kernel
theorem dksX2_init_1 : cX2_init.data.toList.drop 22 = dktX2_init_1 := dk_seg dksX2_init_0 22 rfl rfl
theorem dksX2_init_2 : cX2_init.data.toList.drop 44 = dktX2_init_2 := dk_seg dksX2_init_1 22 rfl rfl
theorem dksX2_init_3 : cX2_init.data.toList.drop 68 = dktX2_init_3 := dk_seg dksX2_init_2 24 rfl rfl
theorem dksX2_init_4 : cX2_init.data.toList.drop 92 = dktX2_init_4 := dk_seg dksX2_init_3 24 rfl rfl
theorem dksX2_init_5 : cX2_init.data.toList.drop 114 = dktX2_init_5 := dk_seg dksX2_init_4 22 rfl rfl
theorem dX2_init_0 : decode cX2_init 0 = .ok (.aload_n 0, 1) := dk_42 (dk_at dksX2_init_0 0 rfl rfl)
theorem dX2_init_1 : decode cX2_init 1 = .ok (.aload_n 1, 1) := dk_43 (dk_at dksX2_init_0 1 rfl rfl)
theorem dX2_init_2 : decode cX2_init 2 = .ok (.putfield 3, 3) := dk_181 0 3 (dk_at dksX2_init_0 2 rfl rfl)
theorem dX2_init_5 : decode cX2_init 5 = .ok (.aload_n 0, 1) := dk_42 (dk_at dksX2_init_0 5 rfl rfl)
theorem dX2_init_6 : decode cX2_init 6 = .ok (.invokespecial 9, 3) := dk_183 0 9 (dk_at dksX2_init_0 6 rfl rfl)
theorem dX2_init_9 : decode cX2_init 9 = .ok (.aload_n 0, 1) := dk_42 (dk_at dksX2_init_0 9 rfl rfl)
theorem dX2_init_10 : decode cX2_init 10 = .ok (.iconst 1, 1) := dk_4 (dk_at dksX2_init_0 10 rfl rfl)
theorem dX2_init_11 : decode cX2_init 11 = .ok (.putfield 15, 3) := dk_181 0 15 (dk_at dksX2_init_0 11 rfl rfl)
theorem dX2_init_14 : decode cX2_init 14 = .ok (.aload_n 0, 1) := dk_42 (dk_at dksX2_init_0 14 rfl rfl)
theorem dX2_init_15 : decode cX2_init 15 = .ok (.bipush 102, 2) := dk_16 102 (dk_at dksX2_init_0 15 rfl rfl)
theorem dX2_init_17 : decode cX2_init 17 = .ok (.putfield 19, 3) := dk_181 0 19 (dk_at dksX2_init_0 17 rfl rfl)
theorem dX2_init_20 : decode cX2_init 20 = .ok (.aload_n 0, 1) := dk_42 (dk_at dksX2_init_0 20 rfl rfl)
theorem dX2_init_21 : decode cX2_init 21 = .ok (.iconst (-1), 1) := dk_2 (dk_at dksX2_init_0 21 rfl rfl)
theorem dX2_init_22 : decode cX2_init 22 = .ok (.putfield 23, 3) := dk_181 0 23 (dk_at dksX2_init_1 0 rfl rfl)
theorem dX2_init_25 : decode cX2_init 25 = .ok (.aload_n 0, 1) := dk_42 (dk_at dksX2_init_1 3 rfl rfl)
theorem dX2_init_26 : decode cX2_init 26 = .ok (.sipush (-1000), 3) := dk_17 252 24 (dk_at dksX2_init_1 4 rfl rfl)
theorem dX2_init_29 : decode cX2_init 29 = .ok (.putfield 27, 3) := dk_181 0 27 (dk_at dksX2_init_1 7 rfl rfl)
theorem dX2_init_32 : decode cX2_init 32 = .ok (.aload_n 0, 1) := dk_42 (dk_at dksX2_init_1 10 rfl rfl)
theorem dX2_init_33 : decode cX2_init 33 = .ok (.new 30, 3) := dk_187 0 30 (dk_at dksX2_init_1 11 rfl rfl)
theorem dX2_init_36 : decode cX2_init 36 = .ok (.dup, 1) := dk_89 (dk_at dksX2_init_1 14 rfl rfl)
theorem dX2_init_37 : decode cX2_init 37 = .ok (.invokespecial 32, 3) := dk_183 0 32 (dk_at dksX2_init_1 15 rfl rfl)
theorem dX2_init_40 : decode cX2_init 40 = .ok (.putfield 33, 3) := dk_181 0 33 (dk_at dksX2_init_1 18 rfl rfl)
theorem dX2_init_43 : decode cX2_init 43 = .ok (.aload_n 0, 1) := dk_42 (dk_at dksX2_init_1 21 rfl rfl)
theorem dX2_init_44 : decode cX2_init 44 = .ok (.new 37, 3) := dk_187 0 37 (dk_at dksX2_init_2 0 rfl rfl)
theorem dX2_init_47 : decode cX2_init 47 = .ok (.dup, 1) := dk_89 (dk_at dksX2_init_2 3 rfl rfl)
theorem dX2_init_48 : decode cX2_init 48 = .ok (.invokespecial 39, 3) := dk_183 0 39 (dk_at dksX2_init_2 4 rfl rfl)
theorem dX2_init_51 : decode cX2_init 51 = .ok (.putfield 40, 3) := dk_181 0 40 (dk_at dksX2_init_2 7 rfl rfl)
theorem dX2_init_54 : decode cX2_init 54 = .ok (.aload_n 0, 1) := dk_42 (dk_at dksX2_init_2 10 rfl rfl)
theorem dX2_init_55 : decode cX2_init 55 = .ok (.iconst (-1), 1) := dk_2 (dk_at dksX2_init_2 11 rfl rfl)
theorem dX2_init_56 : decode cX2_init 56 = .ok (.putfield 44, 3) := dk_181 0 44 (dk_at dksX2_init_2 12 rfl rfl)
theorem dX2_init_59 : decode cX2_init 59 = .ok (.aload_n 0, 1) := dk_42 (dk_at dksX2_init_2 15 rfl rfl)
theorem dX2_init_60 : decode cX2_init 60 = .ok (.iconst 5, 1) := dk_8 (dk_at dksX2_init_2 16 rfl rfl)
theorem dX2_init_61 : decode cX2_init 61 = .ok (.newarray .int, 2) := dk_188_10 (dk_at dksX2_init_2 17 rfl rfl)
theorem dX2_init_63 : decode cX2_init 63 = .ok (.putfield 47, 3) := dk_181 0 47 (dk_at dksX2_init_2 19 rfl rfl)
theorem dX2_init_66 : decode cX2_init 66 = .ok (.aload_n 0, 1) := dk_42 (dk_at dksX2_init_2 22 rfl rfl)
theorem dX2_init_67 : decode cX2_init 67 = .ok (.iconst 5, 1) := dk_8 (dk_at dksX2_init_2 23 rfl rfl)
theorem dX2_init_68 : decode cX2_init 68 = .ok (.newarray .int, 2) := dk_188_10 (dk_at dksX2_init_3 0 rfl rfl)
theorem dX2_init_70 : decode cX2_init 70 = .ok (.putfield 51, 3) := dk_181 0 51 (dk_at dksX2_init_3 2 rfl rfl)
theorem dX2_init_73 : decode cX2_init 73 = .ok (.aload_n 0, 1) := dk_42 (dk_at dksX2_init_3 5 rfl rfl)
theorem dX2_init_74 : decode cX2_init 74 = .ok (.iconst 5, 1) := dk_8 (dk_at dksX2_init_3 6 rfl rfl)
theorem dX2_init_75 : decode cX2_init 75 = .ok (.newarray .int, 2) := dk_188_10 (dk_at dksX2_init_3 7 rfl rfl)
theorem dX2_init_77 : decode cX2_init 77 = .ok (.putfield 54, 3) := dk_181 0 54 (dk_at dksX2_init_3 9 rfl rfl)
theorem dX2_init_80 : decode cX2_init 80 = .ok (.aload_n 0, 1) := dk_42 (dk_at dksX2_init_3 12 rfl rfl)
theorem dX2_init_81 : decode cX2_init 81 = .ok (.new 30, 3) := dk_187 0 30 (dk_at dksX2_init_3 13 rfl rfl)
theorem dX2_init_84 : decode cX2_init 84 = .ok (.dup, 1) := dk_89 (dk_at dksX2_init_3 16 rfl rfl)
theorem dX2_init_85 : decode cX2_init 85 = .ok (.invokespecial 32, 3) := dk_183 0 32 (dk_at dksX2_init_3 17 rfl rfl)
theorem dX2_init_88 : decode cX2_init 88 = .ok (.putfield 57, 3) := dk_181 0 57 (dk_at dksX2_init_3 20 rfl rfl)
theorem dX2_init_91 : decode cX2_init 91 = .ok (.aload_n 0, 1) := dk_42 (dk_at dksX2_init_3 23 rfl rfl)
theorem dX2_init_92 : decode cX2_init 92 = .ok (.iload_n 2, 1) := dk_28 (dk_at dksX2_init_4 0 rfl rfl)
theorem dX2_init_93 : decode cX2_init 93 = .ok (.putfield 60, 3) := dk_181 0 60 (dk_at dksX2_init_4 1 rfl rfl)
theorem dX2_init_96 : decode cX2_init 96 = .ok (.aload_n 0, 1) := dk_42 (dk_at dksX2_init_4 4 rfl rfl)
theorem dX2_init_97 : decode cX2_init 97 = .ok (.new 63, 3) := dk_187 0 63 (dk_at dksX2_init_4 5 rfl rfl)
theorem dX2_init_100 : decode cX2_init 100 = .ok (.dup, 1) := dk_89 (dk_at dksX2_init_4 8 rfl rfl)
theorem dX2_init_101 : decode cX2_init 101 = .ok (.iconst 0, 1) := dk_3 (dk_at dksX2_init_4 9 rfl rfl)
theorem dX2_init_102 : decode cX2_init 102 = .ok (.iconst 0, 1) := dk_3 (dk_at dksX2_init_4 10 rfl rfl)
theorem dX2_init_103 : decode cX2_init 103 = .ok (.aload_n 3, 1) := dk_45 (dk_at dksX2_init_4 11 rfl rfl)
theorem dX2_init_104 : decode cX2_init 104 = .ok (.new 37, 3) := dk_187 0 37 (dk_at dksX2_init_4 12 rfl rfl)
theorem dX2_init_107 : decode cX2_init 107 = .ok (.dup, 1) := dk_89 (dk_at dksX2_init_4 15 rfl rfl)
theorem dX2_init_108 : decode cX2_init 108 = .ok (.invokespecial 39, 3) := dk_183 0 39 (dk_at dksX2_init_4 16 rfl rfl)
theorem dX2_init_111 : decode cX2_init 111 = .ok (.invokespecial 65, 3) := dk_183 0 65 (dk_at dksX2_init_4 19 rfl rfl)
theorem dX2_init_114 : decode cX2_init 114 = .ok (.putfield 68, 3) := dk_181 0 68 (dk_at dksX2_init_5 0 rfl rfl)
theorem dX2_init_117 : decode cX2_init 117 = .ok (.return_, 1) := dk_177 (dk_at dksX2_init_5 3 rfl rfl)
abbrev cX2_entry : ByteArray := prog_9_method_4_code
def yX2_entry : MethodName := ⟨RX2, "entry", "(I)LQuorumAlmanac$Entry;"⟩
def dkwX2_entry_0 : List UInt8 := [42, 180, 0, 33, 27, 42, 180, 0, 68, 180, 0, 72, 100, 4, 100, 182, 0, 82, 192, 0, 86, 176]
abbrev dktX2_entry_0 : List UInt8 := dkwX2_entry_0 ++ []
theorem dksX2_entry_0 : cX2_entry.data.toList.drop 0 = dktX2_entry_0 := by decide +kernel
theorem dX2_entry_0 : decode cX2_entry 0 = .ok (.aload_n 0, 1) := dk_42 (dk_at dksX2_entry_0 0 rfl rfl)
theorem dX2_entry_1 : decode cX2_entry 1 = .ok (.getfield 33, 3) := dk_180 0 33 (dk_at dksX2_entry_0 1 rfl rfl)
theorem dX2_entry_4 : decode cX2_entry 4 = .ok (.iload_n 1, 1) := dk_27 (dk_at dksX2_entry_0 4 rfl rfl)
theorem dX2_entry_5 : decode cX2_entry 5 = .ok (.aload_n 0, 1) := dk_42 (dk_at dksX2_entry_0 5 rfl rfl)
theorem dX2_entry_6 : decode cX2_entry 6 = .ok (.getfield 68, 3) := dk_180 0 68 (dk_at dksX2_entry_0 6 rfl rfl)
theorem dX2_entry_9 : decode cX2_entry 9 = .ok (.getfield 72, 3) := dk_180 0 72 (dk_at dksX2_entry_0 9 rfl rfl)
theorem dX2_entry_12 : decode cX2_entry 12 = .ok (.isub, 1) := dk_100 (dk_at dksX2_entry_0 12 rfl rfl)
theorem dX2_entry_13 : decode cX2_entry 13 = .ok (.iconst 1, 1) := dk_4 (dk_at dksX2_entry_0 13 rfl rfl)
theorem dX2_entry_14 : decode cX2_entry 14 = .ok (.isub, 1) := dk_100 (dk_at dksX2_entry_0 14 rfl rfl)
theorem dX2_entry_15 : decode cX2_entry 15 = .ok (.invokevirtual 82, 3) := dk_182 0 82 (dk_at dksX2_entry_0 15 rfl rfl)
theorem dX2_entry_18 : decode cX2_entry 18 = .ok (.checkcast 86, 3) := dk_192 0 86 (dk_at dksX2_entry_0 18 rfl rfl)
theorem dX2_entry_21 : decode cX2_entry 21 = .ok (.areturn, 1) := dk_176 (dk_at dksX2_entry_0 21 rfl rfl)
abbrev cX2_termAt : ByteArray := prog_9_method_5_code
def yX2_termAt : MethodName := ⟨RX2, "termAt", "(I)I"⟩
def dkwX2_termAt_1 : List UInt8 := [182, 0, 91, 180, 0, 95, 172]
abbrev dktX2_termAt_1 : List UInt8 := dkwX2_termAt_1 ++ []
def dkwX2_termAt_0 : List UInt8 := [27, 42, 180, 0, 68, 180, 0, 72, 160, 0, 13, 42, 180, 0, 68, 180, 0, 88, 167, 0, 11, 42, 27]
abbrev dktX2_termAt_0 : List UInt8 := dkwX2_termAt_0 ++ dktX2_termAt_1
theorem dksX2_termAt_0 : cX2_termAt.data.toList.drop 0 = dktX2_termAt_0 := by decide +kernel
theorem dksX2_termAt_1 : cX2_termAt.data.toList.drop 23 = dktX2_termAt_1 := dk_seg dksX2_termAt_0 23 rfl rfl
theorem dX2_termAt_0 : decode cX2_termAt 0 = .ok (.iload_n 1, 1) := dk_27 (dk_at dksX2_termAt_0 0 rfl rfl)
theorem dX2_termAt_1 : decode cX2_termAt 1 = .ok (.aload_n 0, 1) := dk_42 (dk_at dksX2_termAt_0 1 rfl rfl)
theorem dX2_termAt_2 : decode cX2_termAt 2 = .ok (.getfield 68, 3) := dk_180 0 68 (dk_at dksX2_termAt_0 2 rfl rfl)
theorem dX2_termAt_5 : decode cX2_termAt 5 = .ok (.getfield 72, 3) := dk_180 0 72 (dk_at dksX2_termAt_0 5 rfl rfl)
theorem dX2_termAt_8 : decode cX2_termAt 8 = .ok (.if_icmp .ne 13, 3) := dk_160 0 13 (dk_at dksX2_termAt_0 8 rfl rfl)
theorem dX2_termAt_11 : decode cX2_termAt 11 = .ok (.aload_n 0, 1) := dk_42 (dk_at dksX2_termAt_0 11 rfl rfl)
theorem dX2_termAt_12 : decode cX2_termAt 12 = .ok (.getfield 68, 3) := dk_180 0 68 (dk_at dksX2_termAt_0 12 rfl rfl)
theorem dX2_termAt_15 : decode cX2_termAt 15 = .ok (.getfield 88, 3) := dk_180 0 88 (dk_at dksX2_termAt_0 15 rfl rfl)
theorem dX2_termAt_18 : decode cX2_termAt 18 = .ok (.goto 11, 3) := dk_167 0 11 (dk_at dksX2_termAt_0 18 rfl rfl)
theorem dX2_termAt_21 : decode cX2_termAt 21 = .ok (.aload_n 0, 1) := dk_42 (dk_at dksX2_termAt_0 21 rfl rfl)
theorem dX2_termAt_22 : decode cX2_termAt 22 = .ok (.iload_n 1, 1) := dk_27 (dk_at dksX2_termAt_0 22 rfl rfl)
theorem dX2_termAt_23 : decode cX2_termAt 23 = .ok (.invokevirtual 91, 3) := dk_182 0 91 (dk_at dksX2_termAt_1 0 rfl rfl)
theorem dX2_termAt_26 : decode cX2_termAt 26 = .ok (.getfield 95, 3) := dk_180 0 95 (dk_at dksX2_termAt_1 3 rfl rfl)
theorem dX2_termAt_29 : decode cX2_termAt 29 = .ok (.ireturn, 1) := dk_172 (dk_at dksX2_termAt_1 6 rfl rfl)
abbrev cX2_tick : ByteArray := prog_9_method_17_code
def yX2_tick : MethodName := ⟨RX2, "tick", "()I"⟩
def dkwX2_tick_4 : List UInt8 := [182, 0, 253, 42, 180, 0, 186, 172]
abbrev dktX2_tick_4 : List UInt8 := dkwX2_tick_4 ++ []
def dkwX2_tick_3 : List UInt8 := [153, 0, 26, 42, 180, 0, 186, 42, 180, 0, 199, 100, 16, 10, 42, 180, 0, 60, 96, 161, 0, 7, 42]
abbrev dktX2_tick_3 : List UInt8 := dkwX2_tick_3 ++ dktX2_tick_4
def dkwX2_tick_2 : List UInt8 := [161, 0, 50, 42, 182, 0, 230, 167, 0, 43, 42, 182, 0, 136, 182, 0, 202, 42, 180, 0, 60, 184, 0, 125]
abbrev dktX2_tick_2 : List UInt8 := dkwX2_tick_2 ++ dktX2_tick_3
def dkwX2_tick_1 : List UInt8 := [180, 0, 57, 42, 180, 0, 57, 182, 0, 75, 4, 100, 182, 0, 82, 192, 0, 248, 182, 0, 250, 100, 6]
abbrev dktX2_tick_1 : List UInt8 := dkwX2_tick_1 ++ dktX2_tick_2
def dkwX2_tick_0 : List UInt8 := [42, 89, 180, 0, 186, 4, 96, 181, 0, 186, 42, 180, 0, 19, 16, 108, 160, 0, 41, 42, 180, 0, 186, 42]
abbrev dktX2_tick_0 : List UInt8 := dkwX2_tick_0 ++ dktX2_tick_1
theorem dksX2_tick_0 : cX2_tick.data.toList.drop 0 = dktX2_tick_0 := by decide +kernel
theorem dksX2_tick_1 : cX2_tick.data.toList.drop 24 = dktX2_tick_1 := dk_seg dksX2_tick_0 24 rfl rfl
theorem dksX2_tick_2 : cX2_tick.data.toList.drop 47 = dktX2_tick_2 := dk_seg dksX2_tick_1 23 rfl rfl
theorem dksX2_tick_3 : cX2_tick.data.toList.drop 71 = dktX2_tick_3 := dk_seg dksX2_tick_2 24 rfl rfl
theorem dksX2_tick_4 : cX2_tick.data.toList.drop 94 = dktX2_tick_4 := dk_seg dksX2_tick_3 23 rfl rfl
theorem dX2_tick_0 : decode cX2_tick 0 = .ok (.aload_n 0, 1) := dk_42 (dk_at dksX2_tick_0 0 rfl rfl)
theorem dX2_tick_1 : decode cX2_tick 1 = .ok (.dup, 1) := dk_89 (dk_at dksX2_tick_0 1 rfl rfl)
theorem dX2_tick_2 : decode cX2_tick 2 = .ok (.getfield 186, 3) := dk_180 0 186 (dk_at dksX2_tick_0 2 rfl rfl)
theorem dX2_tick_5 : decode cX2_tick 5 = .ok (.iconst 1, 1) := dk_4 (dk_at dksX2_tick_0 5 rfl rfl)
theorem dX2_tick_6 : decode cX2_tick 6 = .ok (.iadd, 1) := dk_96 (dk_at dksX2_tick_0 6 rfl rfl)
theorem dX2_tick_7 : decode cX2_tick 7 = .ok (.putfield 186, 3) := dk_181 0 186 (dk_at dksX2_tick_0 7 rfl rfl)
theorem dX2_tick_10 : decode cX2_tick 10 = .ok (.aload_n 0, 1) := dk_42 (dk_at dksX2_tick_0 10 rfl rfl)
theorem dX2_tick_11 : decode cX2_tick 11 = .ok (.getfield 19, 3) := dk_180 0 19 (dk_at dksX2_tick_0 11 rfl rfl)
theorem dX2_tick_14 : decode cX2_tick 14 = .ok (.bipush 108, 2) := dk_16 108 (dk_at dksX2_tick_0 14 rfl rfl)
theorem dX2_tick_16 : decode cX2_tick 16 = .ok (.if_icmp .ne 41, 3) := dk_160 0 41 (dk_at dksX2_tick_0 16 rfl rfl)
theorem dX2_tick_19 : decode cX2_tick 19 = .ok (.aload_n 0, 1) := dk_42 (dk_at dksX2_tick_0 19 rfl rfl)
theorem dX2_tick_20 : decode cX2_tick 20 = .ok (.getfield 186, 3) := dk_180 0 186 (dk_at dksX2_tick_0 20 rfl rfl)
theorem dX2_tick_23 : decode cX2_tick 23 = .ok (.aload_n 0, 1) := dk_42 (dk_at dksX2_tick_0 23 rfl rfl)
theorem dX2_tick_24 : decode cX2_tick 24 = .ok (.getfield 57, 3) := dk_180 0 57 (dk_at dksX2_tick_1 0 rfl rfl)
theorem dX2_tick_27 : decode cX2_tick 27 = .ok (.aload_n 0, 1) := dk_42 (dk_at dksX2_tick_1 3 rfl rfl)
theorem dX2_tick_28 : decode cX2_tick 28 = .ok (.getfield 57, 3) := dk_180 0 57 (dk_at dksX2_tick_1 4 rfl rfl)
theorem dX2_tick_31 : decode cX2_tick 31 = .ok (.invokevirtual 75, 3) := dk_182 0 75 (dk_at dksX2_tick_1 7 rfl rfl)
theorem dX2_tick_34 : decode cX2_tick 34 = .ok (.iconst 1, 1) := dk_4 (dk_at dksX2_tick_1 10 rfl rfl)
theorem dX2_tick_35 : decode cX2_tick 35 = .ok (.isub, 1) := dk_100 (dk_at dksX2_tick_1 11 rfl rfl)
theorem dX2_tick_36 : decode cX2_tick 36 = .ok (.invokevirtual 82, 3) := dk_182 0 82 (dk_at dksX2_tick_1 12 rfl rfl)
theorem dX2_tick_39 : decode cX2_tick 39 = .ok (.checkcast 248, 3) := dk_192 0 248 (dk_at dksX2_tick_1 15 rfl rfl)
theorem dX2_tick_42 : decode cX2_tick 42 = .ok (.invokevirtual 250, 3) := dk_182 0 250 (dk_at dksX2_tick_1 18 rfl rfl)
theorem dX2_tick_45 : decode cX2_tick 45 = .ok (.isub, 1) := dk_100 (dk_at dksX2_tick_1 21 rfl rfl)
theorem dX2_tick_46 : decode cX2_tick 46 = .ok (.iconst 3, 1) := dk_6 (dk_at dksX2_tick_1 22 rfl rfl)
theorem dX2_tick_47 : decode cX2_tick 47 = .ok (.if_icmp .lt 50, 3) := dk_161 0 50 (dk_at dksX2_tick_2 0 rfl rfl)
theorem dX2_tick_50 : decode cX2_tick 50 = .ok (.aload_n 0, 1) := dk_42 (dk_at dksX2_tick_2 3 rfl rfl)
theorem dX2_tick_51 : decode cX2_tick 51 = .ok (.invokevirtual 230, 3) := dk_182 0 230 (dk_at dksX2_tick_2 4 rfl rfl)
theorem dX2_tick_54 : decode cX2_tick 54 = .ok (.goto 43, 3) := dk_167 0 43 (dk_at dksX2_tick_2 7 rfl rfl)
theorem dX2_tick_57 : decode cX2_tick 57 = .ok (.aload_n 0, 1) := dk_42 (dk_at dksX2_tick_2 10 rfl rfl)
theorem dX2_tick_58 : decode cX2_tick 58 = .ok (.invokevirtual 136, 3) := dk_182 0 136 (dk_at dksX2_tick_2 11 rfl rfl)
theorem dX2_tick_61 : decode cX2_tick 61 = .ok (.invokevirtual 202, 3) := dk_182 0 202 (dk_at dksX2_tick_2 14 rfl rfl)
theorem dX2_tick_64 : decode cX2_tick 64 = .ok (.aload_n 0, 1) := dk_42 (dk_at dksX2_tick_2 17 rfl rfl)
theorem dX2_tick_65 : decode cX2_tick 65 = .ok (.getfield 60, 3) := dk_180 0 60 (dk_at dksX2_tick_2 18 rfl rfl)
theorem dX2_tick_68 : decode cX2_tick 68 = .ok (.invokestatic 125, 3) := dk_184 0 125 (dk_at dksX2_tick_2 21 rfl rfl)
theorem dX2_tick_71 : decode cX2_tick 71 = .ok (.ifCond .eq 26, 3) := dk_153 0 26 (dk_at dksX2_tick_3 0 rfl rfl)
theorem dX2_tick_74 : decode cX2_tick 74 = .ok (.aload_n 0, 1) := dk_42 (dk_at dksX2_tick_3 3 rfl rfl)
theorem dX2_tick_75 : decode cX2_tick 75 = .ok (.getfield 186, 3) := dk_180 0 186 (dk_at dksX2_tick_3 4 rfl rfl)
theorem dX2_tick_78 : decode cX2_tick 78 = .ok (.aload_n 0, 1) := dk_42 (dk_at dksX2_tick_3 7 rfl rfl)
theorem dX2_tick_79 : decode cX2_tick 79 = .ok (.getfield 199, 3) := dk_180 0 199 (dk_at dksX2_tick_3 8 rfl rfl)
theorem dX2_tick_82 : decode cX2_tick 82 = .ok (.isub, 1) := dk_100 (dk_at dksX2_tick_3 11 rfl rfl)
theorem dX2_tick_83 : decode cX2_tick 83 = .ok (.bipush 10, 2) := dk_16 10 (dk_at dksX2_tick_3 12 rfl rfl)
theorem dX2_tick_85 : decode cX2_tick 85 = .ok (.aload_n 0, 1) := dk_42 (dk_at dksX2_tick_3 14 rfl rfl)
theorem dX2_tick_86 : decode cX2_tick 86 = .ok (.getfield 60, 3) := dk_180 0 60 (dk_at dksX2_tick_3 15 rfl rfl)
theorem dX2_tick_89 : decode cX2_tick 89 = .ok (.iadd, 1) := dk_96 (dk_at dksX2_tick_3 18 rfl rfl)
theorem dX2_tick_90 : decode cX2_tick 90 = .ok (.if_icmp .lt 7, 3) := dk_161 0 7 (dk_at dksX2_tick_3 19 rfl rfl)
theorem dX2_tick_93 : decode cX2_tick 93 = .ok (.aload_n 0, 1) := dk_42 (dk_at dksX2_tick_3 22 rfl rfl)
theorem dX2_tick_94 : decode cX2_tick 94 = .ok (.invokevirtual 253, 3) := dk_182 0 253 (dk_at dksX2_tick_4 0 rfl rfl)
theorem dX2_tick_97 : decode cX2_tick 97 = .ok (.aload_n 0, 1) := dk_42 (dk_at dksX2_tick_4 3 rfl rfl)
theorem dX2_tick_98 : decode cX2_tick 98 = .ok (.getfield 186, 3) := dk_180 0 186 (dk_at dksX2_tick_4 4 rfl rfl)
theorem dX2_tick_101 : decode cX2_tick 101 = .ok (.ireturn, 1) := dk_172 (dk_at dksX2_tick_4 7 rfl rfl)
abbrev cX2_beginRound : ByteArray := prog_9_method_18_code
def yX2_beginRound : MethodName := ⟨RX2, "beginRound", "()V"⟩
def dkwX2_beginRound_3 : List UInt8 := [167, 255, 220, 42, 182, 1, 7, 177]
abbrev dktX2_beginRound_3 : List UInt8 := dkwX2_beginRound_3 ++ []
def dkwX2_beginRound_2 : List UInt8 := [42, 182, 0, 136, 182, 0, 202, 28, 184, 0, 125, 153, 0, 9, 42, 28, 27, 182, 1, 4, 132, 2, 1]
abbrev dktX2_beginRound_2 : List UInt8 := dkwX2_beginRound_2 ++ dktX2_beginRound_3
def dkwX2_beginRound_1 : List UInt8 := [180, 0, 54, 42, 180, 0, 60, 27, 79, 3, 61, 28, 8, 162, 0, 37, 28, 42, 180, 0, 60, 159, 0, 23]
abbrev dktX2_beginRound_1 : List UInt8 := dkwX2_beginRound_1 ++ dktX2_beginRound_2
def dkwX2_beginRound_0 : List UInt8 := [42, 180, 0, 57, 42, 180, 0, 186, 184, 1, 0, 182, 0, 150, 87, 42, 180, 0, 57, 182, 0, 75, 60, 42]
abbrev dktX2_beginRound_0 : List UInt8 := dkwX2_beginRound_0 ++ dktX2_beginRound_1
theorem dksX2_beginRound_0 : cX2_beginRound.data.toList.drop 0 = dktX2_beginRound_0 := by decide +kernel
theorem dksX2_beginRound_1 : cX2_beginRound.data.toList.drop 24 = dktX2_beginRound_1 := dk_seg dksX2_beginRound_0 24 rfl rfl
theorem dksX2_beginRound_2 : cX2_beginRound.data.toList.drop 48 = dktX2_beginRound_2 := dk_seg dksX2_beginRound_1 24 rfl rfl
theorem dksX2_beginRound_3 : cX2_beginRound.data.toList.drop 71 = dktX2_beginRound_3 := dk_seg dksX2_beginRound_2 23 rfl rfl
theorem dX2_beginRound_0 : decode cX2_beginRound 0 = .ok (.aload_n 0, 1) := dk_42 (dk_at dksX2_beginRound_0 0 rfl rfl)
theorem dX2_beginRound_1 : decode cX2_beginRound 1 = .ok (.getfield 57, 3) := dk_180 0 57 (dk_at dksX2_beginRound_0 1 rfl rfl)
theorem dX2_beginRound_4 : decode cX2_beginRound 4 = .ok (.aload_n 0, 1) := dk_42 (dk_at dksX2_beginRound_0 4 rfl rfl)
theorem dX2_beginRound_5 : decode cX2_beginRound 5 = .ok (.getfield 186, 3) := dk_180 0 186 (dk_at dksX2_beginRound_0 5 rfl rfl)
theorem dX2_beginRound_8 : decode cX2_beginRound 8 = .ok (.invokestatic 256, 3) := dk_184 1 0 (dk_at dksX2_beginRound_0 8 rfl rfl)
theorem dX2_beginRound_11 : decode cX2_beginRound 11 = .ok (.invokevirtual 150, 3) := dk_182 0 150 (dk_at dksX2_beginRound_0 11 rfl rfl)
theorem dX2_beginRound_14 : decode cX2_beginRound 14 = .ok (.pop, 1) := dk_87 (dk_at dksX2_beginRound_0 14 rfl rfl)
theorem dX2_beginRound_15 : decode cX2_beginRound 15 = .ok (.aload_n 0, 1) := dk_42 (dk_at dksX2_beginRound_0 15 rfl rfl)
theorem dX2_beginRound_16 : decode cX2_beginRound 16 = .ok (.getfield 57, 3) := dk_180 0 57 (dk_at dksX2_beginRound_0 16 rfl rfl)
theorem dX2_beginRound_19 : decode cX2_beginRound 19 = .ok (.invokevirtual 75, 3) := dk_182 0 75 (dk_at dksX2_beginRound_0 19 rfl rfl)
theorem dX2_beginRound_22 : decode cX2_beginRound 22 = .ok (.istore_n 1, 1) := dk_60 (dk_at dksX2_beginRound_0 22 rfl rfl)
theorem dX2_beginRound_23 : decode cX2_beginRound 23 = .ok (.aload_n 0, 1) := dk_42 (dk_at dksX2_beginRound_0 23 rfl rfl)
theorem dX2_beginRound_24 : decode cX2_beginRound 24 = .ok (.getfield 54, 3) := dk_180 0 54 (dk_at dksX2_beginRound_1 0 rfl rfl)
theorem dX2_beginRound_27 : decode cX2_beginRound 27 = .ok (.aload_n 0, 1) := dk_42 (dk_at dksX2_beginRound_1 3 rfl rfl)
theorem dX2_beginRound_28 : decode cX2_beginRound 28 = .ok (.getfield 60, 3) := dk_180 0 60 (dk_at dksX2_beginRound_1 4 rfl rfl)
theorem dX2_beginRound_31 : decode cX2_beginRound 31 = .ok (.iload_n 1, 1) := dk_27 (dk_at dksX2_beginRound_1 7 rfl rfl)
theorem dX2_beginRound_32 : decode cX2_beginRound 32 = .ok (.iastore, 1) := dk_79 (dk_at dksX2_beginRound_1 8 rfl rfl)
theorem dX2_beginRound_33 : decode cX2_beginRound 33 = .ok (.iconst 0, 1) := dk_3 (dk_at dksX2_beginRound_1 9 rfl rfl)
theorem dX2_beginRound_34 : decode cX2_beginRound 34 = .ok (.istore_n 2, 1) := dk_61 (dk_at dksX2_beginRound_1 10 rfl rfl)
theorem dX2_beginRound_35 : decode cX2_beginRound 35 = .ok (.iload_n 2, 1) := dk_28 (dk_at dksX2_beginRound_1 11 rfl rfl)
theorem dX2_beginRound_36 : decode cX2_beginRound 36 = .ok (.iconst 5, 1) := dk_8 (dk_at dksX2_beginRound_1 12 rfl rfl)
theorem dX2_beginRound_37 : decode cX2_beginRound 37 = .ok (.if_icmp .ge 37, 3) := dk_162 0 37 (dk_at dksX2_beginRound_1 13 rfl rfl)
theorem dX2_beginRound_40 : decode cX2_beginRound 40 = .ok (.iload_n 2, 1) := dk_28 (dk_at dksX2_beginRound_1 16 rfl rfl)
theorem dX2_beginRound_41 : decode cX2_beginRound 41 = .ok (.aload_n 0, 1) := dk_42 (dk_at dksX2_beginRound_1 17 rfl rfl)
theorem dX2_beginRound_42 : decode cX2_beginRound 42 = .ok (.getfield 60, 3) := dk_180 0 60 (dk_at dksX2_beginRound_1 18 rfl rfl)
theorem dX2_beginRound_45 : decode cX2_beginRound 45 = .ok (.if_icmp .eq 23, 3) := dk_159 0 23 (dk_at dksX2_beginRound_1 21 rfl rfl)
theorem dX2_beginRound_48 : decode cX2_beginRound 48 = .ok (.aload_n 0, 1) := dk_42 (dk_at dksX2_beginRound_2 0 rfl rfl)
theorem dX2_beginRound_49 : decode cX2_beginRound 49 = .ok (.invokevirtual 136, 3) := dk_182 0 136 (dk_at dksX2_beginRound_2 1 rfl rfl)
theorem dX2_beginRound_52 : decode cX2_beginRound 52 = .ok (.invokevirtual 202, 3) := dk_182 0 202 (dk_at dksX2_beginRound_2 4 rfl rfl)
theorem dX2_beginRound_55 : decode cX2_beginRound 55 = .ok (.iload_n 2, 1) := dk_28 (dk_at dksX2_beginRound_2 7 rfl rfl)
theorem dX2_beginRound_56 : decode cX2_beginRound 56 = .ok (.invokestatic 125, 3) := dk_184 0 125 (dk_at dksX2_beginRound_2 8 rfl rfl)
theorem dX2_beginRound_59 : decode cX2_beginRound 59 = .ok (.ifCond .eq 9, 3) := dk_153 0 9 (dk_at dksX2_beginRound_2 11 rfl rfl)
theorem dX2_beginRound_62 : decode cX2_beginRound 62 = .ok (.aload_n 0, 1) := dk_42 (dk_at dksX2_beginRound_2 14 rfl rfl)
theorem dX2_beginRound_63 : decode cX2_beginRound 63 = .ok (.iload_n 2, 1) := dk_28 (dk_at dksX2_beginRound_2 15 rfl rfl)
theorem dX2_beginRound_64 : decode cX2_beginRound 64 = .ok (.iload_n 1, 1) := dk_27 (dk_at dksX2_beginRound_2 16 rfl rfl)
theorem dX2_beginRound_65 : decode cX2_beginRound 65 = .ok (.invokevirtual 260, 3) := dk_182 1 4 (dk_at dksX2_beginRound_2 17 rfl rfl)
theorem dX2_beginRound_68 : decode cX2_beginRound 68 = .ok (.iinc 2 1, 3) := dk_132 2 1 (dk_at dksX2_beginRound_2 20 rfl rfl)
theorem dX2_beginRound_71 : decode cX2_beginRound 71 = .ok (.goto (-36), 3) := dk_167 255 220 (dk_at dksX2_beginRound_3 0 rfl rfl)
theorem dX2_beginRound_74 : decode cX2_beginRound 74 = .ok (.aload_n 0, 1) := dk_42 (dk_at dksX2_beginRound_3 3 rfl rfl)
theorem dX2_beginRound_75 : decode cX2_beginRound 75 = .ok (.invokevirtual 263, 3) := dk_182 1 7 (dk_at dksX2_beginRound_3 4 rfl rfl)
theorem dX2_beginRound_78 : decode cX2_beginRound 78 = .ok (.return_, 1) := dk_177 (dk_at dksX2_beginRound_3 7 rfl rfl)
abbrev cX2_members : ByteArray := prog_9_method_6_code
def yX2_members : MethodName := ⟨RX2, "members", "()LQuorumAlmanac$Members;"⟩
def dkwX2_members_3 : List UInt8 := [132, 1, 255, 167, 255, 189, 42, 180, 0, 68, 180, 0, 110, 176]
abbrev dktX2_members_3 : List UInt8 := dkwX2_members_3 ++ []
def dkwX2_members_2 : List UInt8 := [180, 0, 96, 16, 106, 160, 0, 10, 44, 180, 0, 101, 167, 0, 4, 3, 44, 180, 0, 104, 183, 0, 107, 176]
abbrev dktX2_members_2 : List UInt8 := dkwX2_members_2 ++ dktX2_members_3
def dkwX2_members_1 : List UInt8 := [180, 0, 96, 16, 106, 159, 0, 12, 44, 180, 0, 96, 16, 110, 160, 0, 32, 187, 0, 99, 89, 44]
abbrev dktX2_members_1 : List UInt8 := dkwX2_members_1 ++ dktX2_members_2
def dkwX2_members_0 : List UInt8 := [42, 182, 0, 79, 60, 27, 42, 180, 0, 68, 180, 0, 72, 164, 0, 62, 42, 27, 182, 0, 91, 77, 44]
abbrev dktX2_members_0 : List UInt8 := dkwX2_members_0 ++ dktX2_members_1
theorem dksX2_members_0 : cX2_members.data.toList.drop 0 = dktX2_members_0 := by decide +kernel
theorem dksX2_members_1 : cX2_members.data.toList.drop 23 = dktX2_members_1 := dk_seg dksX2_members_0 23 rfl rfl
theorem dksX2_members_2 : cX2_members.data.toList.drop 45 = dktX2_members_2 := dk_seg dksX2_members_1 22 rfl rfl
theorem dksX2_members_3 : cX2_members.data.toList.drop 69 = dktX2_members_3 := dk_seg dksX2_members_2 24 rfl rfl
theorem dX2_members_0 : decode cX2_members 0 = .ok (.aload_n 0, 1) := dk_42 (dk_at dksX2_members_0 0 rfl rfl)
theorem dX2_members_1 : decode cX2_members 1 = .ok (.invokevirtual 79, 3) := dk_182 0 79 (dk_at dksX2_members_0 1 rfl rfl)
theorem dX2_members_4 : decode cX2_members 4 = .ok (.istore_n 1, 1) := dk_60 (dk_at dksX2_members_0 4 rfl rfl)
theorem dX2_members_5 : decode cX2_members 5 = .ok (.iload_n 1, 1) := dk_27 (dk_at dksX2_members_0 5 rfl rfl)
theorem dX2_members_6 : decode cX2_members 6 = .ok (.aload_n 0, 1) := dk_42 (dk_at dksX2_members_0 6 rfl rfl)
theorem dX2_members_7 : decode cX2_members 7 = .ok (.getfield 68, 3) := dk_180 0 68 (dk_at dksX2_members_0 7 rfl rfl)
theorem dX2_members_10 : decode cX2_members 10 = .ok (.getfield 72, 3) := dk_180 0 72 (dk_at dksX2_members_0 10 rfl rfl)
theorem dX2_members_13 : decode cX2_members 13 = .ok (.if_icmp .le 62, 3) := dk_164 0 62 (dk_at dksX2_members_0 13 rfl rfl)
theorem dX2_members_16 : decode cX2_members 16 = .ok (.aload_n 0, 1) := dk_42 (dk_at dksX2_members_0 16 rfl rfl)
theorem dX2_members_17 : decode cX2_members 17 = .ok (.iload_n 1, 1) := dk_27 (dk_at dksX2_members_0 17 rfl rfl)
theorem dX2_members_18 : decode cX2_members 18 = .ok (.invokevirtual 91, 3) := dk_182 0 91 (dk_at dksX2_members_0 18 rfl rfl)
theorem dX2_members_21 : decode cX2_members 21 = .ok (.astore_n 2, 1) := dk_77 (dk_at dksX2_members_0 21 rfl rfl)
theorem dX2_members_22 : decode cX2_members 22 = .ok (.aload_n 2, 1) := dk_44 (dk_at dksX2_members_0 22 rfl rfl)
theorem dX2_members_23 : decode cX2_members 23 = .ok (.getfield 96, 3) := dk_180 0 96 (dk_at dksX2_members_1 0 rfl rfl)
theorem dX2_members_26 : decode cX2_members 26 = .ok (.bipush 106, 2) := dk_16 106 (dk_at dksX2_members_1 3 rfl rfl)
theorem dX2_members_28 : decode cX2_members 28 = .ok (.if_icmp .eq 12, 3) := dk_159 0 12 (dk_at dksX2_members_1 5 rfl rfl)
theorem dX2_members_31 : decode cX2_members 31 = .ok (.aload_n 2, 1) := dk_44 (dk_at dksX2_members_1 8 rfl rfl)
theorem dX2_members_32 : decode cX2_members 32 = .ok (.getfield 96, 3) := dk_180 0 96 (dk_at dksX2_members_1 9 rfl rfl)
theorem dX2_members_35 : decode cX2_members 35 = .ok (.bipush 110, 2) := dk_16 110 (dk_at dksX2_members_1 12 rfl rfl)
theorem dX2_members_37 : decode cX2_members 37 = .ok (.if_icmp .ne 32, 3) := dk_160 0 32 (dk_at dksX2_members_1 14 rfl rfl)
theorem dX2_members_40 : decode cX2_members 40 = .ok (.new 99, 3) := dk_187 0 99 (dk_at dksX2_members_1 17 rfl rfl)
theorem dX2_members_43 : decode cX2_members 43 = .ok (.dup, 1) := dk_89 (dk_at dksX2_members_1 20 rfl rfl)
theorem dX2_members_44 : decode cX2_members 44 = .ok (.aload_n 2, 1) := dk_44 (dk_at dksX2_members_1 21 rfl rfl)
theorem dX2_members_45 : decode cX2_members 45 = .ok (.getfield 96, 3) := dk_180 0 96 (dk_at dksX2_members_2 0 rfl rfl)
theorem dX2_members_48 : decode cX2_members 48 = .ok (.bipush 106, 2) := dk_16 106 (dk_at dksX2_members_2 3 rfl rfl)
theorem dX2_members_50 : decode cX2_members 50 = .ok (.if_icmp .ne 10, 3) := dk_160 0 10 (dk_at dksX2_members_2 5 rfl rfl)
theorem dX2_members_53 : decode cX2_members 53 = .ok (.aload_n 2, 1) := dk_44 (dk_at dksX2_members_2 8 rfl rfl)
theorem dX2_members_54 : decode cX2_members 54 = .ok (.getfield 101, 3) := dk_180 0 101 (dk_at dksX2_members_2 9 rfl rfl)
theorem dX2_members_57 : decode cX2_members 57 = .ok (.goto 4, 3) := dk_167 0 4 (dk_at dksX2_members_2 12 rfl rfl)
theorem dX2_members_60 : decode cX2_members 60 = .ok (.iconst 0, 1) := dk_3 (dk_at dksX2_members_2 15 rfl rfl)
theorem dX2_members_61 : decode cX2_members 61 = .ok (.aload_n 2, 1) := dk_44 (dk_at dksX2_members_2 16 rfl rfl)
theorem dX2_members_62 : decode cX2_members 62 = .ok (.getfield 104, 3) := dk_180 0 104 (dk_at dksX2_members_2 17 rfl rfl)
theorem dX2_members_65 : decode cX2_members 65 = .ok (.invokespecial 107, 3) := dk_183 0 107 (dk_at dksX2_members_2 20 rfl rfl)
theorem dX2_members_68 : decode cX2_members 68 = .ok (.areturn, 1) := dk_176 (dk_at dksX2_members_2 23 rfl rfl)
theorem dX2_members_69 : decode cX2_members 69 = .ok (.iinc 1 (-1), 3) := dk_132 1 255 (dk_at dksX2_members_3 0 rfl rfl)
theorem dX2_members_72 : decode cX2_members 72 = .ok (.goto (-67), 3) := dk_167 255 189 (dk_at dksX2_members_3 3 rfl rfl)
theorem dX2_members_75 : decode cX2_members 75 = .ok (.aload_n 0, 1) := dk_42 (dk_at dksX2_members_3 6 rfl rfl)
theorem dX2_members_76 : decode cX2_members 76 = .ok (.getfield 68, 3) := dk_180 0 68 (dk_at dksX2_members_3 7 rfl rfl)
theorem dX2_members_79 : decode cX2_members 79 = .ok (.getfield 110, 3) := dk_180 0 110 (dk_at dksX2_members_3 10 rfl rfl)
theorem dX2_members_82 : decode cX2_members 82 = .ok (.areturn, 1) := dk_176 (dk_at dksX2_members_3 13 rfl rfl)
abbrev cX2_sendRound : ByteArray := prog_9_method_19_code
def yX2_sendRound : MethodName := ⟨RX2, "sendRound", "(II)V"⟩
def dkwX2_sendRound_6 : List UInt8 := [182, 0, 210, 45, 42, 180, 0, 114, 183, 1, 17, 182, 0, 217, 177]
abbrev dktX2_sendRound_6 : List UInt8 := dkwX2_sendRound_6 ++ []
def dkwX2_sendRound_5 : List UInt8 := [89, 42, 180, 0, 3, 182, 0, 207, 42, 180, 0, 60, 27, 42, 180, 0, 143, 28, 21, 4, 42, 21, 4]
abbrev dktX2_sendRound_5 : List UInt8 := dkwX2_sendRound_5 ++ dktX2_sendRound_6
def dkwX2_sendRound_4 : List UInt8 := [87, 132, 4, 1, 167, 255, 225, 42, 180, 0, 47, 27, 46, 4, 100, 54, 4, 42, 180, 0, 3, 187, 1, 15]
abbrev dktX2_sendRound_4 : List UInt8 := dkwX2_sendRound_4 ++ dktX2_sendRound_5
def dkwX2_sendRound_3 : List UInt8 := [182, 0, 79, 163, 0, 28, 45, 182, 0, 75, 7, 162, 0, 20, 45, 42, 21, 4, 182, 0, 91, 182, 0, 150]
abbrev dktX2_sendRound_3 : List UInt8 := dkwX2_sendRound_3 ++ dktX2_sendRound_4
def dkwX2_sendRound_2 : List UInt8 := [182, 0, 217, 177, 187, 0, 30, 89, 183, 0, 32, 78, 42, 180, 0, 47, 27, 46, 54, 4, 21, 4, 42]
abbrev dktX2_sendRound_2 : List UInt8 := dkwX2_sendRound_2 ++ dktX2_sendRound_3
def dkwX2_sendRound_1 : List UInt8 := [42, 180, 0, 3, 182, 0, 207, 42, 180, 0, 60, 27, 42, 180, 0, 143, 28, 42, 180, 0, 68, 183, 1, 12]
abbrev dktX2_sendRound_1 : List UInt8 := dkwX2_sendRound_1 ++ dktX2_sendRound_2
def dkwX2_sendRound_0 : List UInt8 := [42, 180, 0, 47, 27, 46, 42, 180, 0, 68, 180, 0, 72, 163, 0, 39, 42, 180, 0, 3, 187, 1, 10, 89]
abbrev dktX2_sendRound_0 : List UInt8 := dkwX2_sendRound_0 ++ dktX2_sendRound_1
theorem dksX2_sendRound_0 : cX2_sendRound.data.toList.drop 0 = dktX2_sendRound_0 := by decide +kernel
theorem dksX2_sendRound_1 : cX2_sendRound.data.toList.drop 24 = dktX2_sendRound_1 := dk_seg dksX2_sendRound_0 24 rfl rfl
theorem dksX2_sendRound_2 : cX2_sendRound.data.toList.drop 48 = dktX2_sendRound_2 := dk_seg dksX2_sendRound_1 24 rfl rfl
theorem dksX2_sendRound_3 : cX2_sendRound.data.toList.drop 71 = dktX2_sendRound_3 := dk_seg dksX2_sendRound_2 23 rfl rfl
theorem dksX2_sendRound_4 : cX2_sendRound.data.toList.drop 95 = dktX2_sendRound_4 := dk_seg dksX2_sendRound_3 24 rfl rfl
theorem dksX2_sendRound_5 : cX2_sendRound.data.toList.drop 119 = dktX2_sendRound_5 := dk_seg dksX2_sendRound_4 24 rfl rfl
theorem dksX2_sendRound_6 : cX2_sendRound.data.toList.drop 142 = dktX2_sendRound_6 := dk_seg dksX2_sendRound_5 23 rfl rfl
theorem dX2_sendRound_0 : decode cX2_sendRound 0 = .ok (.aload_n 0, 1) := dk_42 (dk_at dksX2_sendRound_0 0 rfl rfl)
theorem dX2_sendRound_1 : decode cX2_sendRound 1 = .ok (.getfield 47, 3) := dk_180 0 47 (dk_at dksX2_sendRound_0 1 rfl rfl)
theorem dX2_sendRound_4 : decode cX2_sendRound 4 = .ok (.iload_n 1, 1) := dk_27 (dk_at dksX2_sendRound_0 4 rfl rfl)
theorem dX2_sendRound_5 : decode cX2_sendRound 5 = .ok (.iaload, 1) := dk_46 (dk_at dksX2_sendRound_0 5 rfl rfl)
theorem dX2_sendRound_6 : decode cX2_sendRound 6 = .ok (.aload_n 0, 1) := dk_42 (dk_at dksX2_sendRound_0 6 rfl rfl)
theorem dX2_sendRound_7 : decode cX2_sendRound 7 = .ok (.getfield 68, 3) := dk_180 0 68 (dk_at dksX2_sendRound_0 7 rfl rfl)
theorem dX2_sendRound_10 : decode cX2_sendRound 10 = .ok (.getfield 72, 3) := dk_180 0 72 (dk_at dksX2_sendRound_0 10 rfl rfl)
theorem dX2_sendRound_13 : decode cX2_sendRound 13 = .ok (.if_icmp .gt 39, 3) := dk_163 0 39 (dk_at dksX2_sendRound_0 13 rfl rfl)
theorem dX2_sendRound_16 : decode cX2_sendRound 16 = .ok (.aload_n 0, 1) := dk_42 (dk_at dksX2_sendRound_0 16 rfl rfl)
theorem dX2_sendRound_17 : decode cX2_sendRound 17 = .ok (.getfield 3, 3) := dk_180 0 3 (dk_at dksX2_sendRound_0 17 rfl rfl)
theorem dX2_sendRound_20 : decode cX2_sendRound 20 = .ok (.new 266, 3) := dk_187 1 10 (dk_at dksX2_sendRound_0 20 rfl rfl)
theorem dX2_sendRound_23 : decode cX2_sendRound 23 = .ok (.dup, 1) := dk_89 (dk_at dksX2_sendRound_0 23 rfl rfl)
theorem dX2_sendRound_24 : decode cX2_sendRound 24 = .ok (.aload_n 0, 1) := dk_42 (dk_at dksX2_sendRound_1 0 rfl rfl)
theorem dX2_sendRound_25 : decode cX2_sendRound 25 = .ok (.getfield 3, 3) := dk_180 0 3 (dk_at dksX2_sendRound_1 1 rfl rfl)
theorem dX2_sendRound_28 : decode cX2_sendRound 28 = .ok (.invokevirtual 207, 3) := dk_182 0 207 (dk_at dksX2_sendRound_1 4 rfl rfl)
theorem dX2_sendRound_31 : decode cX2_sendRound 31 = .ok (.aload_n 0, 1) := dk_42 (dk_at dksX2_sendRound_1 7 rfl rfl)
theorem dX2_sendRound_32 : decode cX2_sendRound 32 = .ok (.getfield 60, 3) := dk_180 0 60 (dk_at dksX2_sendRound_1 8 rfl rfl)
theorem dX2_sendRound_35 : decode cX2_sendRound 35 = .ok (.iload_n 1, 1) := dk_27 (dk_at dksX2_sendRound_1 11 rfl rfl)
theorem dX2_sendRound_36 : decode cX2_sendRound 36 = .ok (.aload_n 0, 1) := dk_42 (dk_at dksX2_sendRound_1 12 rfl rfl)
theorem dX2_sendRound_37 : decode cX2_sendRound 37 = .ok (.getfield 143, 3) := dk_180 0 143 (dk_at dksX2_sendRound_1 13 rfl rfl)
theorem dX2_sendRound_40 : decode cX2_sendRound 40 = .ok (.iload_n 2, 1) := dk_28 (dk_at dksX2_sendRound_1 16 rfl rfl)
theorem dX2_sendRound_41 : decode cX2_sendRound 41 = .ok (.aload_n 0, 1) := dk_42 (dk_at dksX2_sendRound_1 17 rfl rfl)
theorem dX2_sendRound_42 : decode cX2_sendRound 42 = .ok (.getfield 68, 3) := dk_180 0 68 (dk_at dksX2_sendRound_1 18 rfl rfl)
theorem dX2_sendRound_45 : decode cX2_sendRound 45 = .ok (.invokespecial 268, 3) := dk_183 1 12 (dk_at dksX2_sendRound_1 21 rfl rfl)
theorem dX2_sendRound_48 : decode cX2_sendRound 48 = .ok (.invokevirtual 217, 3) := dk_182 0 217 (dk_at dksX2_sendRound_2 0 rfl rfl)
theorem dX2_sendRound_51 : decode cX2_sendRound 51 = .ok (.return_, 1) := dk_177 (dk_at dksX2_sendRound_2 3 rfl rfl)
theorem dX2_sendRound_52 : decode cX2_sendRound 52 = .ok (.new 30, 3) := dk_187 0 30 (dk_at dksX2_sendRound_2 4 rfl rfl)
theorem dX2_sendRound_55 : decode cX2_sendRound 55 = .ok (.dup, 1) := dk_89 (dk_at dksX2_sendRound_2 7 rfl rfl)
theorem dX2_sendRound_56 : decode cX2_sendRound 56 = .ok (.invokespecial 32, 3) := dk_183 0 32 (dk_at dksX2_sendRound_2 8 rfl rfl)
theorem dX2_sendRound_59 : decode cX2_sendRound 59 = .ok (.astore_n 3, 1) := dk_78 (dk_at dksX2_sendRound_2 11 rfl rfl)
theorem dX2_sendRound_60 : decode cX2_sendRound 60 = .ok (.aload_n 0, 1) := dk_42 (dk_at dksX2_sendRound_2 12 rfl rfl)
theorem dX2_sendRound_61 : decode cX2_sendRound 61 = .ok (.getfield 47, 3) := dk_180 0 47 (dk_at dksX2_sendRound_2 13 rfl rfl)
theorem dX2_sendRound_64 : decode cX2_sendRound 64 = .ok (.iload_n 1, 1) := dk_27 (dk_at dksX2_sendRound_2 16 rfl rfl)
theorem dX2_sendRound_65 : decode cX2_sendRound 65 = .ok (.iaload, 1) := dk_46 (dk_at dksX2_sendRound_2 17 rfl rfl)
theorem dX2_sendRound_66 : decode cX2_sendRound 66 = .ok (.istore 4, 2) := dk_54 4 (dk_at dksX2_sendRound_2 18 rfl rfl)
theorem dX2_sendRound_68 : decode cX2_sendRound 68 = .ok (.iload 4, 2) := dk_21 4 (dk_at dksX2_sendRound_2 20 rfl rfl)
theorem dX2_sendRound_70 : decode cX2_sendRound 70 = .ok (.aload_n 0, 1) := dk_42 (dk_at dksX2_sendRound_2 22 rfl rfl)
theorem dX2_sendRound_71 : decode cX2_sendRound 71 = .ok (.invokevirtual 79, 3) := dk_182 0 79 (dk_at dksX2_sendRound_3 0 rfl rfl)
theorem dX2_sendRound_74 : decode cX2_sendRound 74 = .ok (.if_icmp .gt 28, 3) := dk_163 0 28 (dk_at dksX2_sendRound_3 3 rfl rfl)
theorem dX2_sendRound_77 : decode cX2_sendRound 77 = .ok (.aload_n 3, 1) := dk_45 (dk_at dksX2_sendRound_3 6 rfl rfl)
theorem dX2_sendRound_78 : decode cX2_sendRound 78 = .ok (.invokevirtual 75, 3) := dk_182 0 75 (dk_at dksX2_sendRound_3 7 rfl rfl)
theorem dX2_sendRound_81 : decode cX2_sendRound 81 = .ok (.iconst 4, 1) := dk_7 (dk_at dksX2_sendRound_3 10 rfl rfl)
theorem dX2_sendRound_82 : decode cX2_sendRound 82 = .ok (.if_icmp .ge 20, 3) := dk_162 0 20 (dk_at dksX2_sendRound_3 11 rfl rfl)
theorem dX2_sendRound_85 : decode cX2_sendRound 85 = .ok (.aload_n 3, 1) := dk_45 (dk_at dksX2_sendRound_3 14 rfl rfl)
theorem dX2_sendRound_86 : decode cX2_sendRound 86 = .ok (.aload_n 0, 1) := dk_42 (dk_at dksX2_sendRound_3 15 rfl rfl)
theorem dX2_sendRound_87 : decode cX2_sendRound 87 = .ok (.iload 4, 2) := dk_21 4 (dk_at dksX2_sendRound_3 16 rfl rfl)
theorem dX2_sendRound_89 : decode cX2_sendRound 89 = .ok (.invokevirtual 91, 3) := dk_182 0 91 (dk_at dksX2_sendRound_3 18 rfl rfl)
theorem dX2_sendRound_92 : decode cX2_sendRound 92 = .ok (.invokevirtual 150, 3) := dk_182 0 150 (dk_at dksX2_sendRound_3 21 rfl rfl)
theorem dX2_sendRound_95 : decode cX2_sendRound 95 = .ok (.pop, 1) := dk_87 (dk_at dksX2_sendRound_4 0 rfl rfl)
theorem dX2_sendRound_96 : decode cX2_sendRound 96 = .ok (.iinc 4 1, 3) := dk_132 4 1 (dk_at dksX2_sendRound_4 1 rfl rfl)
theorem dX2_sendRound_99 : decode cX2_sendRound 99 = .ok (.goto (-31), 3) := dk_167 255 225 (dk_at dksX2_sendRound_4 4 rfl rfl)
theorem dX2_sendRound_102 : decode cX2_sendRound 102 = .ok (.aload_n 0, 1) := dk_42 (dk_at dksX2_sendRound_4 7 rfl rfl)
theorem dX2_sendRound_103 : decode cX2_sendRound 103 = .ok (.getfield 47, 3) := dk_180 0 47 (dk_at dksX2_sendRound_4 8 rfl rfl)
theorem dX2_sendRound_106 : decode cX2_sendRound 106 = .ok (.iload_n 1, 1) := dk_27 (dk_at dksX2_sendRound_4 11 rfl rfl)
theorem dX2_sendRound_107 : decode cX2_sendRound 107 = .ok (.iaload, 1) := dk_46 (dk_at dksX2_sendRound_4 12 rfl rfl)
theorem dX2_sendRound_108 : decode cX2_sendRound 108 = .ok (.iconst 1, 1) := dk_4 (dk_at dksX2_sendRound_4 13 rfl rfl)
theorem dX2_sendRound_109 : decode cX2_sendRound 109 = .ok (.isub, 1) := dk_100 (dk_at dksX2_sendRound_4 14 rfl rfl)
theorem dX2_sendRound_110 : decode cX2_sendRound 110 = .ok (.istore 4, 2) := dk_54 4 (dk_at dksX2_sendRound_4 15 rfl rfl)
theorem dX2_sendRound_112 : decode cX2_sendRound 112 = .ok (.aload_n 0, 1) := dk_42 (dk_at dksX2_sendRound_4 17 rfl rfl)
theorem dX2_sendRound_113 : decode cX2_sendRound 113 = .ok (.getfield 3, 3) := dk_180 0 3 (dk_at dksX2_sendRound_4 18 rfl rfl)
theorem dX2_sendRound_116 : decode cX2_sendRound 116 = .ok (.new 271, 3) := dk_187 1 15 (dk_at dksX2_sendRound_4 21 rfl rfl)
theorem dX2_sendRound_119 : decode cX2_sendRound 119 = .ok (.dup, 1) := dk_89 (dk_at dksX2_sendRound_5 0 rfl rfl)
theorem dX2_sendRound_120 : decode cX2_sendRound 120 = .ok (.aload_n 0, 1) := dk_42 (dk_at dksX2_sendRound_5 1 rfl rfl)
theorem dX2_sendRound_121 : decode cX2_sendRound 121 = .ok (.getfield 3, 3) := dk_180 0 3 (dk_at dksX2_sendRound_5 2 rfl rfl)
theorem dX2_sendRound_124 : decode cX2_sendRound 124 = .ok (.invokevirtual 207, 3) := dk_182 0 207 (dk_at dksX2_sendRound_5 5 rfl rfl)
theorem dX2_sendRound_127 : decode cX2_sendRound 127 = .ok (.aload_n 0, 1) := dk_42 (dk_at dksX2_sendRound_5 8 rfl rfl)
theorem dX2_sendRound_128 : decode cX2_sendRound 128 = .ok (.getfield 60, 3) := dk_180 0 60 (dk_at dksX2_sendRound_5 9 rfl rfl)
theorem dX2_sendRound_131 : decode cX2_sendRound 131 = .ok (.iload_n 1, 1) := dk_27 (dk_at dksX2_sendRound_5 12 rfl rfl)
theorem dX2_sendRound_132 : decode cX2_sendRound 132 = .ok (.aload_n 0, 1) := dk_42 (dk_at dksX2_sendRound_5 13 rfl rfl)
theorem dX2_sendRound_133 : decode cX2_sendRound 133 = .ok (.getfield 143, 3) := dk_180 0 143 (dk_at dksX2_sendRound_5 14 rfl rfl)
theorem dX2_sendRound_136 : decode cX2_sendRound 136 = .ok (.iload_n 2, 1) := dk_28 (dk_at dksX2_sendRound_5 17 rfl rfl)
theorem dX2_sendRound_137 : decode cX2_sendRound 137 = .ok (.iload 4, 2) := dk_21 4 (dk_at dksX2_sendRound_5 18 rfl rfl)
theorem dX2_sendRound_139 : decode cX2_sendRound 139 = .ok (.aload_n 0, 1) := dk_42 (dk_at dksX2_sendRound_5 20 rfl rfl)
theorem dX2_sendRound_140 : decode cX2_sendRound 140 = .ok (.iload 4, 2) := dk_21 4 (dk_at dksX2_sendRound_5 21 rfl rfl)
theorem dX2_sendRound_142 : decode cX2_sendRound 142 = .ok (.invokevirtual 210, 3) := dk_182 0 210 (dk_at dksX2_sendRound_6 0 rfl rfl)
theorem dX2_sendRound_145 : decode cX2_sendRound 145 = .ok (.aload_n 3, 1) := dk_45 (dk_at dksX2_sendRound_6 3 rfl rfl)
theorem dX2_sendRound_146 : decode cX2_sendRound 146 = .ok (.aload_n 0, 1) := dk_42 (dk_at dksX2_sendRound_6 4 rfl rfl)
theorem dX2_sendRound_147 : decode cX2_sendRound 147 = .ok (.getfield 114, 3) := dk_180 0 114 (dk_at dksX2_sendRound_6 5 rfl rfl)
theorem dX2_sendRound_150 : decode cX2_sendRound 150 = .ok (.invokespecial 273, 3) := dk_183 1 17 (dk_at dksX2_sendRound_6 8 rfl rfl)
theorem dX2_sendRound_153 : decode cX2_sendRound 153 = .ok (.invokevirtual 217, 3) := dk_182 0 217 (dk_at dksX2_sendRound_6 11 rfl rfl)
theorem dX2_sendRound_156 : decode cX2_sendRound 156 = .ok (.return_, 1) := dk_177 (dk_at dksX2_sendRound_6 14 rfl rfl)
abbrev cX2_readyReads : ByteArray := prog_9_method_33_code
def yX2_readyReads : MethodName := ⟨RX2, "readyReads", "()V"⟩
def dkwX2_readyReads_5 : List UInt8 := [180, 1, 135, 42, 180, 0, 114, 163, 0, 7, 4, 167, 0, 4, 3, 181, 1, 132, 167, 255, 154, 177]
abbrev dktX2_readyReads_5 : List UInt8 := dkwX2_readyReads_5 ++ []
def dkwX2_readyReads_4 : List UInt8 := [180, 1, 126, 46, 181, 1, 129, 42, 180, 0, 3, 42, 180, 0, 3, 180, 1, 132, 153, 0, 18, 45]
abbrev dktX2_readyReads_4 : List UInt8 := dkwX2_readyReads_4 ++ dktX2_readyReads_5
def dkwX2_readyReads_3 : List UInt8 := [45, 180, 1, 122, 27, 163, 0, 58, 45, 16, 114, 181, 0, 174, 45, 42, 180, 0, 40, 180, 1, 123, 45]
abbrev dktX2_readyReads_3 : List UInt8 := dkwX2_readyReads_3 ++ dktX2_readyReads_4
def dkwX2_readyReads_2 : List UInt8 := [192, 0, 169, 78, 45, 180, 0, 171, 42, 180, 0, 60, 160, 0, 75, 45, 180, 0, 174, 16, 119, 160, 0, 66]
abbrev dktX2_readyReads_2 : List UInt8 := dkwX2_readyReads_2 ++ dktX2_readyReads_3
def dkwX2_readyReads_1 : List UInt8 := [180, 0, 154, 182, 0, 157, 77, 44, 185, 0, 161, 1, 0, 153, 0, 99, 44, 185, 0, 166, 1, 0]
abbrev dktX2_readyReads_1 : List UInt8 := dkwX2_readyReads_1 ++ dktX2_readyReads_2
def dkwX2_readyReads_0 : List UInt8 := [42, 180, 0, 19, 16, 108, 160, 0, 10, 42, 182, 1, 119, 167, 0, 4, 3, 60, 42, 180, 0, 3]
abbrev dktX2_readyReads_0 : List UInt8 := dkwX2_readyReads_0 ++ dktX2_readyReads_1
theorem dksX2_readyReads_0 : cX2_readyReads.data.toList.drop 0 = dktX2_readyReads_0 := by decide +kernel
theorem dksX2_readyReads_1 : cX2_readyReads.data.toList.drop 22 = dktX2_readyReads_1 := dk_seg dksX2_readyReads_0 22 rfl rfl
theorem dksX2_readyReads_2 : cX2_readyReads.data.toList.drop 44 = dktX2_readyReads_2 := dk_seg dksX2_readyReads_1 22 rfl rfl
theorem dksX2_readyReads_3 : cX2_readyReads.data.toList.drop 68 = dktX2_readyReads_3 := dk_seg dksX2_readyReads_2 24 rfl rfl
theorem dksX2_readyReads_4 : cX2_readyReads.data.toList.drop 91 = dktX2_readyReads_4 := dk_seg dksX2_readyReads_3 23 rfl rfl
theorem dksX2_readyReads_5 : cX2_readyReads.data.toList.drop 113 = dktX2_readyReads_5 := dk_seg dksX2_readyReads_4 22 rfl rfl
theorem dX2_readyReads_0 : decode cX2_readyReads 0 = .ok (.aload_n 0, 1) := dk_42 (dk_at dksX2_readyReads_0 0 rfl rfl)
theorem dX2_readyReads_1 : decode cX2_readyReads 1 = .ok (.getfield 19, 3) := dk_180 0 19 (dk_at dksX2_readyReads_0 1 rfl rfl)
theorem dX2_readyReads_4 : decode cX2_readyReads 4 = .ok (.bipush 108, 2) := dk_16 108 (dk_at dksX2_readyReads_0 4 rfl rfl)
theorem dX2_readyReads_6 : decode cX2_readyReads 6 = .ok (.if_icmp .ne 10, 3) := dk_160 0 10 (dk_at dksX2_readyReads_0 6 rfl rfl)
theorem dX2_readyReads_9 : decode cX2_readyReads 9 = .ok (.aload_n 0, 1) := dk_42 (dk_at dksX2_readyReads_0 9 rfl rfl)
theorem dX2_readyReads_10 : decode cX2_readyReads 10 = .ok (.invokevirtual 375, 3) := dk_182 1 119 (dk_at dksX2_readyReads_0 10 rfl rfl)
theorem dX2_readyReads_13 : decode cX2_readyReads 13 = .ok (.goto 4, 3) := dk_167 0 4 (dk_at dksX2_readyReads_0 13 rfl rfl)
theorem dX2_readyReads_16 : decode cX2_readyReads 16 = .ok (.iconst 0, 1) := dk_3 (dk_at dksX2_readyReads_0 16 rfl rfl)
theorem dX2_readyReads_17 : decode cX2_readyReads 17 = .ok (.istore_n 1, 1) := dk_60 (dk_at dksX2_readyReads_0 17 rfl rfl)
theorem dX2_readyReads_18 : decode cX2_readyReads 18 = .ok (.aload_n 0, 1) := dk_42 (dk_at dksX2_readyReads_0 18 rfl rfl)
theorem dX2_readyReads_19 : decode cX2_readyReads 19 = .ok (.getfield 3, 3) := dk_180 0 3 (dk_at dksX2_readyReads_0 19 rfl rfl)
theorem dX2_readyReads_22 : decode cX2_readyReads 22 = .ok (.getfield 154, 3) := dk_180 0 154 (dk_at dksX2_readyReads_1 0 rfl rfl)
theorem dX2_readyReads_25 : decode cX2_readyReads 25 = .ok (.invokevirtual 157, 3) := dk_182 0 157 (dk_at dksX2_readyReads_1 3 rfl rfl)
theorem dX2_readyReads_28 : decode cX2_readyReads 28 = .ok (.astore_n 2, 1) := dk_77 (dk_at dksX2_readyReads_1 6 rfl rfl)
theorem dX2_readyReads_29 : decode cX2_readyReads 29 = .ok (.aload_n 2, 1) := dk_44 (dk_at dksX2_readyReads_1 7 rfl rfl)
theorem dX2_readyReads_30 : decode cX2_readyReads 30 = .ok (.invokeinterface 161 1, 5) := by decide +kernel
theorem dX2_readyReads_35 : decode cX2_readyReads 35 = .ok (.ifCond .eq 99, 3) := dk_153 0 99 (dk_at dksX2_readyReads_1 13 rfl rfl)
theorem dX2_readyReads_38 : decode cX2_readyReads 38 = .ok (.aload_n 2, 1) := dk_44 (dk_at dksX2_readyReads_1 16 rfl rfl)
theorem dX2_readyReads_39 : decode cX2_readyReads 39 = .ok (.invokeinterface 166 1, 5) := by decide +kernel
theorem dX2_readyReads_44 : decode cX2_readyReads 44 = .ok (.checkcast 169, 3) := dk_192 0 169 (dk_at dksX2_readyReads_2 0 rfl rfl)
theorem dX2_readyReads_47 : decode cX2_readyReads 47 = .ok (.astore_n 3, 1) := dk_78 (dk_at dksX2_readyReads_2 3 rfl rfl)
theorem dX2_readyReads_48 : decode cX2_readyReads 48 = .ok (.aload_n 3, 1) := dk_45 (dk_at dksX2_readyReads_2 4 rfl rfl)
theorem dX2_readyReads_49 : decode cX2_readyReads 49 = .ok (.getfield 171, 3) := dk_180 0 171 (dk_at dksX2_readyReads_2 5 rfl rfl)
theorem dX2_readyReads_52 : decode cX2_readyReads 52 = .ok (.aload_n 0, 1) := dk_42 (dk_at dksX2_readyReads_2 8 rfl rfl)
theorem dX2_readyReads_53 : decode cX2_readyReads 53 = .ok (.getfield 60, 3) := dk_180 0 60 (dk_at dksX2_readyReads_2 9 rfl rfl)
theorem dX2_readyReads_56 : decode cX2_readyReads 56 = .ok (.if_icmp .ne 75, 3) := dk_160 0 75 (dk_at dksX2_readyReads_2 12 rfl rfl)
theorem dX2_readyReads_59 : decode cX2_readyReads 59 = .ok (.aload_n 3, 1) := dk_45 (dk_at dksX2_readyReads_2 15 rfl rfl)
theorem dX2_readyReads_60 : decode cX2_readyReads 60 = .ok (.getfield 174, 3) := dk_180 0 174 (dk_at dksX2_readyReads_2 16 rfl rfl)
theorem dX2_readyReads_63 : decode cX2_readyReads 63 = .ok (.bipush 119, 2) := dk_16 119 (dk_at dksX2_readyReads_2 19 rfl rfl)
theorem dX2_readyReads_65 : decode cX2_readyReads 65 = .ok (.if_icmp .ne 66, 3) := dk_160 0 66 (dk_at dksX2_readyReads_2 21 rfl rfl)
theorem dX2_readyReads_68 : decode cX2_readyReads 68 = .ok (.aload_n 3, 1) := dk_45 (dk_at dksX2_readyReads_3 0 rfl rfl)
theorem dX2_readyReads_69 : decode cX2_readyReads 69 = .ok (.getfield 378, 3) := dk_180 1 122 (dk_at dksX2_readyReads_3 1 rfl rfl)
theorem dX2_readyReads_72 : decode cX2_readyReads 72 = .ok (.iload_n 1, 1) := dk_27 (dk_at dksX2_readyReads_3 4 rfl rfl)
theorem dX2_readyReads_73 : decode cX2_readyReads 73 = .ok (.if_icmp .gt 58, 3) := dk_163 0 58 (dk_at dksX2_readyReads_3 5 rfl rfl)
theorem dX2_readyReads_76 : decode cX2_readyReads 76 = .ok (.aload_n 3, 1) := dk_45 (dk_at dksX2_readyReads_3 8 rfl rfl)
theorem dX2_readyReads_77 : decode cX2_readyReads 77 = .ok (.bipush 114, 2) := dk_16 114 (dk_at dksX2_readyReads_3 9 rfl rfl)
theorem dX2_readyReads_79 : decode cX2_readyReads 79 = .ok (.putfield 174, 3) := dk_181 0 174 (dk_at dksX2_readyReads_3 11 rfl rfl)
theorem dX2_readyReads_82 : decode cX2_readyReads 82 = .ok (.aload_n 3, 1) := dk_45 (dk_at dksX2_readyReads_3 14 rfl rfl)
theorem dX2_readyReads_83 : decode cX2_readyReads 83 = .ok (.aload_n 0, 1) := dk_42 (dk_at dksX2_readyReads_3 15 rfl rfl)
theorem dX2_readyReads_84 : decode cX2_readyReads 84 = .ok (.getfield 40, 3) := dk_180 0 40 (dk_at dksX2_readyReads_3 16 rfl rfl)
theorem dX2_readyReads_87 : decode cX2_readyReads 87 = .ok (.getfield 379, 3) := dk_180 1 123 (dk_at dksX2_readyReads_3 19 rfl rfl)
theorem dX2_readyReads_90 : decode cX2_readyReads 90 = .ok (.aload_n 3, 1) := dk_45 (dk_at dksX2_readyReads_3 22 rfl rfl)
theorem dX2_readyReads_91 : decode cX2_readyReads 91 = .ok (.getfield 382, 3) := dk_180 1 126 (dk_at dksX2_readyReads_4 0 rfl rfl)
theorem dX2_readyReads_94 : decode cX2_readyReads 94 = .ok (.iaload, 1) := dk_46 (dk_at dksX2_readyReads_4 3 rfl rfl)
theorem dX2_readyReads_95 : decode cX2_readyReads 95 = .ok (.putfield 385, 3) := dk_181 1 129 (dk_at dksX2_readyReads_4 4 rfl rfl)
theorem dX2_readyReads_98 : decode cX2_readyReads 98 = .ok (.aload_n 0, 1) := dk_42 (dk_at dksX2_readyReads_4 7 rfl rfl)
theorem dX2_readyReads_99 : decode cX2_readyReads 99 = .ok (.getfield 3, 3) := dk_180 0 3 (dk_at dksX2_readyReads_4 8 rfl rfl)
theorem dX2_readyReads_102 : decode cX2_readyReads 102 = .ok (.aload_n 0, 1) := dk_42 (dk_at dksX2_readyReads_4 11 rfl rfl)
theorem dX2_readyReads_103 : decode cX2_readyReads 103 = .ok (.getfield 3, 3) := dk_180 0 3 (dk_at dksX2_readyReads_4 12 rfl rfl)
theorem dX2_readyReads_106 : decode cX2_readyReads 106 = .ok (.getfield 388, 3) := dk_180 1 132 (dk_at dksX2_readyReads_4 15 rfl rfl)
theorem dX2_readyReads_109 : decode cX2_readyReads 109 = .ok (.ifCond .eq 18, 3) := dk_153 0 18 (dk_at dksX2_readyReads_4 18 rfl rfl)
theorem dX2_readyReads_112 : decode cX2_readyReads 112 = .ok (.aload_n 3, 1) := dk_45 (dk_at dksX2_readyReads_4 21 rfl rfl)
theorem dX2_readyReads_113 : decode cX2_readyReads 113 = .ok (.getfield 391, 3) := dk_180 1 135 (dk_at dksX2_readyReads_5 0 rfl rfl)
theorem dX2_readyReads_116 : decode cX2_readyReads 116 = .ok (.aload_n 0, 1) := dk_42 (dk_at dksX2_readyReads_5 3 rfl rfl)
theorem dX2_readyReads_117 : decode cX2_readyReads 117 = .ok (.getfield 114, 3) := dk_180 0 114 (dk_at dksX2_readyReads_5 4 rfl rfl)
theorem dX2_readyReads_120 : decode cX2_readyReads 120 = .ok (.if_icmp .gt 7, 3) := dk_163 0 7 (dk_at dksX2_readyReads_5 7 rfl rfl)
theorem dX2_readyReads_123 : decode cX2_readyReads 123 = .ok (.iconst 1, 1) := dk_4 (dk_at dksX2_readyReads_5 10 rfl rfl)
theorem dX2_readyReads_124 : decode cX2_readyReads 124 = .ok (.goto 4, 3) := dk_167 0 4 (dk_at dksX2_readyReads_5 11 rfl rfl)
theorem dX2_readyReads_127 : decode cX2_readyReads 127 = .ok (.iconst 0, 1) := dk_3 (dk_at dksX2_readyReads_5 14 rfl rfl)
theorem dX2_readyReads_128 : decode cX2_readyReads 128 = .ok (.putfield 388, 3) := dk_181 1 132 (dk_at dksX2_readyReads_5 15 rfl rfl)
theorem dX2_readyReads_131 : decode cX2_readyReads 131 = .ok (.goto (-102), 3) := dk_167 255 154 (dk_at dksX2_readyReads_5 18 rfl rfl)
theorem dX2_readyReads_134 : decode cX2_readyReads 134 = .ok (.return_, 1) := dk_177 (dk_at dksX2_readyReads_5 21 rfl rfl)
abbrev cX2_latestAnswered : ByteArray := prog_9_method_29_code
def yX2_latestAnswered : MethodName := ⟨RX2, "latestAnswered", "()I"⟩
def dkwX2_latestAnswered_1 : List UInt8 := [182, 0, 224, 154, 0, 9, 132, 1, 255, 167, 255, 237, 27, 172]
abbrev dktX2_latestAnswered_1 : List UInt8 := dkwX2_latestAnswered_1 ++ []
def dkwX2_latestAnswered_0 : List UInt8 := [42, 180, 0, 57, 182, 0, 75, 60, 42, 182, 0, 136, 77, 27, 158, 0, 21, 44, 42, 27, 182, 1, 113]
abbrev dktX2_latestAnswered_0 : List UInt8 := dkwX2_latestAnswered_0 ++ dktX2_latestAnswered_1
theorem dksX2_latestAnswered_0 : cX2_latestAnswered.data.toList.drop 0 = dktX2_latestAnswered_0 := by decide +kernel
theorem dksX2_latestAnswered_1 : cX2_latestAnswered.data.toList.drop 23 = dktX2_latestAnswered_1 := dk_seg dksX2_latestAnswered_0 23 rfl rfl
theorem dX2_latestAnswered_0 : decode cX2_latestAnswered 0 = .ok (.aload_n 0, 1) := dk_42 (dk_at dksX2_latestAnswered_0 0 rfl rfl)
theorem dX2_latestAnswered_1 : decode cX2_latestAnswered 1 = .ok (.getfield 57, 3) := dk_180 0 57 (dk_at dksX2_latestAnswered_0 1 rfl rfl)
theorem dX2_latestAnswered_4 : decode cX2_latestAnswered 4 = .ok (.invokevirtual 75, 3) := dk_182 0 75 (dk_at dksX2_latestAnswered_0 4 rfl rfl)
theorem dX2_latestAnswered_7 : decode cX2_latestAnswered 7 = .ok (.istore_n 1, 1) := dk_60 (dk_at dksX2_latestAnswered_0 7 rfl rfl)
theorem dX2_latestAnswered_8 : decode cX2_latestAnswered 8 = .ok (.aload_n 0, 1) := dk_42 (dk_at dksX2_latestAnswered_0 8 rfl rfl)
theorem dX2_latestAnswered_9 : decode cX2_latestAnswered 9 = .ok (.invokevirtual 136, 3) := dk_182 0 136 (dk_at dksX2_latestAnswered_0 9 rfl rfl)
theorem dX2_latestAnswered_12 : decode cX2_latestAnswered 12 = .ok (.astore_n 2, 1) := dk_77 (dk_at dksX2_latestAnswered_0 12 rfl rfl)
theorem dX2_latestAnswered_13 : decode cX2_latestAnswered 13 = .ok (.iload_n 1, 1) := dk_27 (dk_at dksX2_latestAnswered_0 13 rfl rfl)
theorem dX2_latestAnswered_14 : decode cX2_latestAnswered 14 = .ok (.ifCond .le 21, 3) := dk_158 0 21 (dk_at dksX2_latestAnswered_0 14 rfl rfl)
theorem dX2_latestAnswered_17 : decode cX2_latestAnswered 17 = .ok (.aload_n 2, 1) := dk_44 (dk_at dksX2_latestAnswered_0 17 rfl rfl)
theorem dX2_latestAnswered_18 : decode cX2_latestAnswered 18 = .ok (.aload_n 0, 1) := dk_42 (dk_at dksX2_latestAnswered_0 18 rfl rfl)
theorem dX2_latestAnswered_19 : decode cX2_latestAnswered 19 = .ok (.iload_n 1, 1) := dk_27 (dk_at dksX2_latestAnswered_0 19 rfl rfl)
theorem dX2_latestAnswered_20 : decode cX2_latestAnswered 20 = .ok (.invokevirtual 369, 3) := dk_182 1 113 (dk_at dksX2_latestAnswered_0 20 rfl rfl)
theorem dX2_latestAnswered_23 : decode cX2_latestAnswered 23 = .ok (.invokevirtual 224, 3) := dk_182 0 224 (dk_at dksX2_latestAnswered_1 0 rfl rfl)
theorem dX2_latestAnswered_26 : decode cX2_latestAnswered 26 = .ok (.ifCond .ne 9, 3) := dk_154 0 9 (dk_at dksX2_latestAnswered_1 3 rfl rfl)
theorem dX2_latestAnswered_29 : decode cX2_latestAnswered 29 = .ok (.iinc 1 (-1), 3) := dk_132 1 255 (dk_at dksX2_latestAnswered_1 6 rfl rfl)
theorem dX2_latestAnswered_32 : decode cX2_latestAnswered 32 = .ok (.goto (-19), 3) := dk_167 255 237 (dk_at dksX2_latestAnswered_1 9 rfl rfl)
theorem dX2_latestAnswered_35 : decode cX2_latestAnswered 35 = .ok (.iload_n 1, 1) := dk_27 (dk_at dksX2_latestAnswered_1 12 rfl rfl)
theorem dX2_latestAnswered_36 : decode cX2_latestAnswered 36 = .ok (.ireturn, 1) := dk_172 (dk_at dksX2_latestAnswered_1 13 rfl rfl)
abbrev cX2_setOf : ByteArray := prog_9_method_30_code
def yX2_setOf : MethodName := ⟨RX2, "setOf", "(I)I"⟩
def dkwX2_setOf_1 : List UInt8 := [167, 0, 4, 3, 128, 61, 132, 3, 1, 167, 255, 228, 28, 172]
abbrev dktX2_setOf_1 : List UInt8 := dkwX2_setOf_1 ++ []
def dkwX2_setOf_0 : List UInt8 := [3, 61, 3, 62, 29, 8, 162, 0, 29, 28, 42, 180, 0, 54, 29, 46, 27, 161, 0, 9, 4, 29, 120]
abbrev dktX2_setOf_0 : List UInt8 := dkwX2_setOf_0 ++ dktX2_setOf_1
theorem dksX2_setOf_0 : cX2_setOf.data.toList.drop 0 = dktX2_setOf_0 := by decide +kernel
theorem dksX2_setOf_1 : cX2_setOf.data.toList.drop 23 = dktX2_setOf_1 := dk_seg dksX2_setOf_0 23 rfl rfl
theorem dX2_setOf_0 : decode cX2_setOf 0 = .ok (.iconst 0, 1) := dk_3 (dk_at dksX2_setOf_0 0 rfl rfl)
theorem dX2_setOf_1 : decode cX2_setOf 1 = .ok (.istore_n 2, 1) := dk_61 (dk_at dksX2_setOf_0 1 rfl rfl)
theorem dX2_setOf_2 : decode cX2_setOf 2 = .ok (.iconst 0, 1) := dk_3 (dk_at dksX2_setOf_0 2 rfl rfl)
theorem dX2_setOf_3 : decode cX2_setOf 3 = .ok (.istore_n 3, 1) := dk_62 (dk_at dksX2_setOf_0 3 rfl rfl)
theorem dX2_setOf_4 : decode cX2_setOf 4 = .ok (.iload_n 3, 1) := dk_29 (dk_at dksX2_setOf_0 4 rfl rfl)
theorem dX2_setOf_5 : decode cX2_setOf 5 = .ok (.iconst 5, 1) := dk_8 (dk_at dksX2_setOf_0 5 rfl rfl)
theorem dX2_setOf_6 : decode cX2_setOf 6 = .ok (.if_icmp .ge 29, 3) := dk_162 0 29 (dk_at dksX2_setOf_0 6 rfl rfl)
theorem dX2_setOf_9 : decode cX2_setOf 9 = .ok (.iload_n 2, 1) := dk_28 (dk_at dksX2_setOf_0 9 rfl rfl)
theorem dX2_setOf_10 : decode cX2_setOf 10 = .ok (.aload_n 0, 1) := dk_42 (dk_at dksX2_setOf_0 10 rfl rfl)
theorem dX2_setOf_11 : decode cX2_setOf 11 = .ok (.getfield 54, 3) := dk_180 0 54 (dk_at dksX2_setOf_0 11 rfl rfl)
theorem dX2_setOf_14 : decode cX2_setOf 14 = .ok (.iload_n 3, 1) := dk_29 (dk_at dksX2_setOf_0 14 rfl rfl)
theorem dX2_setOf_15 : decode cX2_setOf 15 = .ok (.iaload, 1) := dk_46 (dk_at dksX2_setOf_0 15 rfl rfl)
theorem dX2_setOf_16 : decode cX2_setOf 16 = .ok (.iload_n 1, 1) := dk_27 (dk_at dksX2_setOf_0 16 rfl rfl)
theorem dX2_setOf_17 : decode cX2_setOf 17 = .ok (.if_icmp .lt 9, 3) := dk_161 0 9 (dk_at dksX2_setOf_0 17 rfl rfl)
theorem dX2_setOf_20 : decode cX2_setOf 20 = .ok (.iconst 1, 1) := dk_4 (dk_at dksX2_setOf_0 20 rfl rfl)
theorem dX2_setOf_21 : decode cX2_setOf 21 = .ok (.iload_n 3, 1) := dk_29 (dk_at dksX2_setOf_0 21 rfl rfl)
theorem dX2_setOf_22 : decode cX2_setOf 22 = .ok (.ishl, 1) := dk_120 (dk_at dksX2_setOf_0 22 rfl rfl)
theorem dX2_setOf_23 : decode cX2_setOf 23 = .ok (.goto 4, 3) := dk_167 0 4 (dk_at dksX2_setOf_1 0 rfl rfl)
theorem dX2_setOf_26 : decode cX2_setOf 26 = .ok (.iconst 0, 1) := dk_3 (dk_at dksX2_setOf_1 3 rfl rfl)
theorem dX2_setOf_27 : decode cX2_setOf 27 = .ok (.ior, 1) := dk_128 (dk_at dksX2_setOf_1 4 rfl rfl)
theorem dX2_setOf_28 : decode cX2_setOf 28 = .ok (.istore_n 2, 1) := dk_61 (dk_at dksX2_setOf_1 5 rfl rfl)
theorem dX2_setOf_29 : decode cX2_setOf 29 = .ok (.iinc 3 1, 3) := dk_132 3 1 (dk_at dksX2_setOf_1 6 rfl rfl)
theorem dX2_setOf_32 : decode cX2_setOf 32 = .ok (.goto (-28), 3) := dk_167 255 228 (dk_at dksX2_setOf_1 9 rfl rfl)
theorem dX2_setOf_35 : decode cX2_setOf 35 = .ok (.iload_n 2, 1) := dk_28 (dk_at dksX2_setOf_1 12 rfl rfl)
theorem dX2_setOf_36 : decode cX2_setOf 36 = .ok (.ireturn, 1) := dk_172 (dk_at dksX2_setOf_1 13 rfl rfl)
abbrev cX2_stand : ByteArray := prog_9_method_14_code
def yX2_stand : MethodName := ⟨RX2, "stand", "()V"⟩
def dkwX2_stand_5 : List UInt8 := [167, 255, 184, 42, 182, 0, 221, 177]
abbrev dktX2_stand_5 : List UInt8 := dkwX2_stand_5 ++ []
def dkwX2_stand_4 : List UInt8 := [180, 0, 143, 42, 182, 0, 79, 42, 42, 182, 0, 79, 182, 0, 210, 183, 0, 214, 182, 0, 217, 132, 1, 1]
abbrev dktX2_stand_4 : List UInt8 := dkwX2_stand_4 ++ dktX2_stand_5
def dkwX2_stand_3 : List UInt8 := [153, 0, 45, 42, 180, 0, 3, 187, 0, 205, 89, 42, 180, 0, 3, 182, 0, 207, 42, 180, 0, 60, 27, 42]
abbrev dktX2_stand_3 : List UInt8 := dkwX2_stand_3 ++ dktX2_stand_4
def dkwX2_stand_2 : List UInt8 := [162, 0, 73, 27, 42, 180, 0, 60, 159, 0, 59, 42, 182, 0, 136, 182, 0, 202, 27, 184, 0, 125]
abbrev dktX2_stand_2 : List UInt8 := dkwX2_stand_2 ++ dktX2_stand_3
def dkwX2_stand_1 : List UInt8 := [42, 4, 42, 180, 0, 60, 120, 181, 0, 196, 42, 42, 180, 0, 186, 181, 0, 199, 3, 60, 27, 8]
abbrev dktX2_stand_1 : List UInt8 := dkwX2_stand_1 ++ dktX2_stand_2
def dkwX2_stand_0 : List UInt8 := [42, 42, 180, 0, 143, 4, 96, 182, 0, 192, 42, 16, 99, 181, 0, 19, 42, 42, 180, 0, 60, 181, 0, 23]
abbrev dktX2_stand_0 : List UInt8 := dkwX2_stand_0 ++ dktX2_stand_1
theorem dksX2_stand_0 : cX2_stand.data.toList.drop 0 = dktX2_stand_0 := by decide +kernel
theorem dksX2_stand_1 : cX2_stand.data.toList.drop 24 = dktX2_stand_1 := dk_seg dksX2_stand_0 24 rfl rfl
theorem dksX2_stand_2 : cX2_stand.data.toList.drop 46 = dktX2_stand_2 := dk_seg dksX2_stand_1 22 rfl rfl
theorem dksX2_stand_3 : cX2_stand.data.toList.drop 68 = dktX2_stand_3 := dk_seg dksX2_stand_2 22 rfl rfl
theorem dksX2_stand_4 : cX2_stand.data.toList.drop 92 = dktX2_stand_4 := dk_seg dksX2_stand_3 24 rfl rfl
theorem dksX2_stand_5 : cX2_stand.data.toList.drop 116 = dktX2_stand_5 := dk_seg dksX2_stand_4 24 rfl rfl
theorem dX2_stand_0 : decode cX2_stand 0 = .ok (.aload_n 0, 1) := dk_42 (dk_at dksX2_stand_0 0 rfl rfl)
theorem dX2_stand_1 : decode cX2_stand 1 = .ok (.aload_n 0, 1) := dk_42 (dk_at dksX2_stand_0 1 rfl rfl)
theorem dX2_stand_2 : decode cX2_stand 2 = .ok (.getfield 143, 3) := dk_180 0 143 (dk_at dksX2_stand_0 2 rfl rfl)
theorem dX2_stand_5 : decode cX2_stand 5 = .ok (.iconst 1, 1) := dk_4 (dk_at dksX2_stand_0 5 rfl rfl)
theorem dX2_stand_6 : decode cX2_stand 6 = .ok (.iadd, 1) := dk_96 (dk_at dksX2_stand_0 6 rfl rfl)
theorem dX2_stand_7 : decode cX2_stand 7 = .ok (.invokevirtual 192, 3) := dk_182 0 192 (dk_at dksX2_stand_0 7 rfl rfl)
theorem dX2_stand_10 : decode cX2_stand 10 = .ok (.aload_n 0, 1) := dk_42 (dk_at dksX2_stand_0 10 rfl rfl)
theorem dX2_stand_11 : decode cX2_stand 11 = .ok (.bipush 99, 2) := dk_16 99 (dk_at dksX2_stand_0 11 rfl rfl)
theorem dX2_stand_13 : decode cX2_stand 13 = .ok (.putfield 19, 3) := dk_181 0 19 (dk_at dksX2_stand_0 13 rfl rfl)
theorem dX2_stand_16 : decode cX2_stand 16 = .ok (.aload_n 0, 1) := dk_42 (dk_at dksX2_stand_0 16 rfl rfl)
theorem dX2_stand_17 : decode cX2_stand 17 = .ok (.aload_n 0, 1) := dk_42 (dk_at dksX2_stand_0 17 rfl rfl)
theorem dX2_stand_18 : decode cX2_stand 18 = .ok (.getfield 60, 3) := dk_180 0 60 (dk_at dksX2_stand_0 18 rfl rfl)
theorem dX2_stand_21 : decode cX2_stand 21 = .ok (.putfield 23, 3) := dk_181 0 23 (dk_at dksX2_stand_0 21 rfl rfl)
theorem dX2_stand_24 : decode cX2_stand 24 = .ok (.aload_n 0, 1) := dk_42 (dk_at dksX2_stand_1 0 rfl rfl)
theorem dX2_stand_25 : decode cX2_stand 25 = .ok (.iconst 1, 1) := dk_4 (dk_at dksX2_stand_1 1 rfl rfl)
theorem dX2_stand_26 : decode cX2_stand 26 = .ok (.aload_n 0, 1) := dk_42 (dk_at dksX2_stand_1 2 rfl rfl)
theorem dX2_stand_27 : decode cX2_stand 27 = .ok (.getfield 60, 3) := dk_180 0 60 (dk_at dksX2_stand_1 3 rfl rfl)
theorem dX2_stand_30 : decode cX2_stand 30 = .ok (.ishl, 1) := dk_120 (dk_at dksX2_stand_1 6 rfl rfl)
theorem dX2_stand_31 : decode cX2_stand 31 = .ok (.putfield 196, 3) := dk_181 0 196 (dk_at dksX2_stand_1 7 rfl rfl)
theorem dX2_stand_34 : decode cX2_stand 34 = .ok (.aload_n 0, 1) := dk_42 (dk_at dksX2_stand_1 10 rfl rfl)
theorem dX2_stand_35 : decode cX2_stand 35 = .ok (.aload_n 0, 1) := dk_42 (dk_at dksX2_stand_1 11 rfl rfl)
theorem dX2_stand_36 : decode cX2_stand 36 = .ok (.getfield 186, 3) := dk_180 0 186 (dk_at dksX2_stand_1 12 rfl rfl)
theorem dX2_stand_39 : decode cX2_stand 39 = .ok (.putfield 199, 3) := dk_181 0 199 (dk_at dksX2_stand_1 15 rfl rfl)
theorem dX2_stand_42 : decode cX2_stand 42 = .ok (.iconst 0, 1) := dk_3 (dk_at dksX2_stand_1 18 rfl rfl)
theorem dX2_stand_43 : decode cX2_stand 43 = .ok (.istore_n 1, 1) := dk_60 (dk_at dksX2_stand_1 19 rfl rfl)
theorem dX2_stand_44 : decode cX2_stand 44 = .ok (.iload_n 1, 1) := dk_27 (dk_at dksX2_stand_1 20 rfl rfl)
theorem dX2_stand_45 : decode cX2_stand 45 = .ok (.iconst 5, 1) := dk_8 (dk_at dksX2_stand_1 21 rfl rfl)
theorem dX2_stand_46 : decode cX2_stand 46 = .ok (.if_icmp .ge 73, 3) := dk_162 0 73 (dk_at dksX2_stand_2 0 rfl rfl)
theorem dX2_stand_49 : decode cX2_stand 49 = .ok (.iload_n 1, 1) := dk_27 (dk_at dksX2_stand_2 3 rfl rfl)
theorem dX2_stand_50 : decode cX2_stand 50 = .ok (.aload_n 0, 1) := dk_42 (dk_at dksX2_stand_2 4 rfl rfl)
theorem dX2_stand_51 : decode cX2_stand 51 = .ok (.getfield 60, 3) := dk_180 0 60 (dk_at dksX2_stand_2 5 rfl rfl)
theorem dX2_stand_54 : decode cX2_stand 54 = .ok (.if_icmp .eq 59, 3) := dk_159 0 59 (dk_at dksX2_stand_2 8 rfl rfl)
theorem dX2_stand_57 : decode cX2_stand 57 = .ok (.aload_n 0, 1) := dk_42 (dk_at dksX2_stand_2 11 rfl rfl)
theorem dX2_stand_58 : decode cX2_stand 58 = .ok (.invokevirtual 136, 3) := dk_182 0 136 (dk_at dksX2_stand_2 12 rfl rfl)
theorem dX2_stand_61 : decode cX2_stand 61 = .ok (.invokevirtual 202, 3) := dk_182 0 202 (dk_at dksX2_stand_2 15 rfl rfl)
theorem dX2_stand_64 : decode cX2_stand 64 = .ok (.iload_n 1, 1) := dk_27 (dk_at dksX2_stand_2 18 rfl rfl)
theorem dX2_stand_65 : decode cX2_stand 65 = .ok (.invokestatic 125, 3) := dk_184 0 125 (dk_at dksX2_stand_2 19 rfl rfl)
theorem dX2_stand_68 : decode cX2_stand 68 = .ok (.ifCond .eq 45, 3) := dk_153 0 45 (dk_at dksX2_stand_3 0 rfl rfl)
theorem dX2_stand_71 : decode cX2_stand 71 = .ok (.aload_n 0, 1) := dk_42 (dk_at dksX2_stand_3 3 rfl rfl)
theorem dX2_stand_72 : decode cX2_stand 72 = .ok (.getfield 3, 3) := dk_180 0 3 (dk_at dksX2_stand_3 4 rfl rfl)
theorem dX2_stand_75 : decode cX2_stand 75 = .ok (.new 205, 3) := dk_187 0 205 (dk_at dksX2_stand_3 7 rfl rfl)
theorem dX2_stand_78 : decode cX2_stand 78 = .ok (.dup, 1) := dk_89 (dk_at dksX2_stand_3 10 rfl rfl)
theorem dX2_stand_79 : decode cX2_stand 79 = .ok (.aload_n 0, 1) := dk_42 (dk_at dksX2_stand_3 11 rfl rfl)
theorem dX2_stand_80 : decode cX2_stand 80 = .ok (.getfield 3, 3) := dk_180 0 3 (dk_at dksX2_stand_3 12 rfl rfl)
theorem dX2_stand_83 : decode cX2_stand 83 = .ok (.invokevirtual 207, 3) := dk_182 0 207 (dk_at dksX2_stand_3 15 rfl rfl)
theorem dX2_stand_86 : decode cX2_stand 86 = .ok (.aload_n 0, 1) := dk_42 (dk_at dksX2_stand_3 18 rfl rfl)
theorem dX2_stand_87 : decode cX2_stand 87 = .ok (.getfield 60, 3) := dk_180 0 60 (dk_at dksX2_stand_3 19 rfl rfl)
theorem dX2_stand_90 : decode cX2_stand 90 = .ok (.iload_n 1, 1) := dk_27 (dk_at dksX2_stand_3 22 rfl rfl)
theorem dX2_stand_91 : decode cX2_stand 91 = .ok (.aload_n 0, 1) := dk_42 (dk_at dksX2_stand_3 23 rfl rfl)
theorem dX2_stand_92 : decode cX2_stand 92 = .ok (.getfield 143, 3) := dk_180 0 143 (dk_at dksX2_stand_4 0 rfl rfl)
theorem dX2_stand_95 : decode cX2_stand 95 = .ok (.aload_n 0, 1) := dk_42 (dk_at dksX2_stand_4 3 rfl rfl)
theorem dX2_stand_96 : decode cX2_stand 96 = .ok (.invokevirtual 79, 3) := dk_182 0 79 (dk_at dksX2_stand_4 4 rfl rfl)
theorem dX2_stand_99 : decode cX2_stand 99 = .ok (.aload_n 0, 1) := dk_42 (dk_at dksX2_stand_4 7 rfl rfl)
theorem dX2_stand_100 : decode cX2_stand 100 = .ok (.aload_n 0, 1) := dk_42 (dk_at dksX2_stand_4 8 rfl rfl)
theorem dX2_stand_101 : decode cX2_stand 101 = .ok (.invokevirtual 79, 3) := dk_182 0 79 (dk_at dksX2_stand_4 9 rfl rfl)
theorem dX2_stand_104 : decode cX2_stand 104 = .ok (.invokevirtual 210, 3) := dk_182 0 210 (dk_at dksX2_stand_4 12 rfl rfl)
theorem dX2_stand_107 : decode cX2_stand 107 = .ok (.invokespecial 214, 3) := dk_183 0 214 (dk_at dksX2_stand_4 15 rfl rfl)
theorem dX2_stand_110 : decode cX2_stand 110 = .ok (.invokevirtual 217, 3) := dk_182 0 217 (dk_at dksX2_stand_4 18 rfl rfl)
theorem dX2_stand_113 : decode cX2_stand 113 = .ok (.iinc 1 1, 3) := dk_132 1 1 (dk_at dksX2_stand_4 21 rfl rfl)
theorem dX2_stand_116 : decode cX2_stand 116 = .ok (.goto (-72), 3) := dk_167 255 184 (dk_at dksX2_stand_5 0 rfl rfl)
theorem dX2_stand_119 : decode cX2_stand 119 = .ok (.aload_n 0, 1) := dk_42 (dk_at dksX2_stand_5 3 rfl rfl)
theorem dX2_stand_120 : decode cX2_stand 120 = .ok (.invokevirtual 221, 3) := dk_182 0 221 (dk_at dksX2_stand_5 4 rfl rfl)
theorem dX2_stand_123 : decode cX2_stand 123 = .ok (.return_, 1) := dk_177 (dk_at dksX2_stand_5 7 rfl rfl)
abbrev cX2_follow : ByteArray := prog_9_method_12_code
def yX2_follow : MethodName := ⟨RX2, "follow", "(I)V"⟩
def dkwX2_follow_1 : List UInt8 := [42, 3, 181, 0, 183, 177]
abbrev dktX2_follow_1 : List UInt8 := dkwX2_follow_1 ++ []
def dkwX2_follow_0 : List UInt8 := [42, 182, 0, 129, 42, 27, 181, 0, 143, 42, 2, 181, 0, 23, 42, 3, 181, 0, 180, 42, 2, 181, 0, 44]
abbrev dktX2_follow_0 : List UInt8 := dkwX2_follow_0 ++ dktX2_follow_1
theorem dksX2_follow_0 : cX2_follow.data.toList.drop 0 = dktX2_follow_0 := by decide +kernel
theorem dksX2_follow_1 : cX2_follow.data.toList.drop 24 = dktX2_follow_1 := dk_seg dksX2_follow_0 24 rfl rfl
theorem dX2_follow_0 : decode cX2_follow 0 = .ok (.aload_n 0, 1) := dk_42 (dk_at dksX2_follow_0 0 rfl rfl)
theorem dX2_follow_1 : decode cX2_follow 1 = .ok (.invokevirtual 129, 3) := dk_182 0 129 (dk_at dksX2_follow_0 1 rfl rfl)
theorem dX2_follow_4 : decode cX2_follow 4 = .ok (.aload_n 0, 1) := dk_42 (dk_at dksX2_follow_0 4 rfl rfl)
theorem dX2_follow_5 : decode cX2_follow 5 = .ok (.iload_n 1, 1) := dk_27 (dk_at dksX2_follow_0 5 rfl rfl)
theorem dX2_follow_6 : decode cX2_follow 6 = .ok (.putfield 143, 3) := dk_181 0 143 (dk_at dksX2_follow_0 6 rfl rfl)
theorem dX2_follow_9 : decode cX2_follow 9 = .ok (.aload_n 0, 1) := dk_42 (dk_at dksX2_follow_0 9 rfl rfl)
theorem dX2_follow_10 : decode cX2_follow 10 = .ok (.iconst (-1), 1) := dk_2 (dk_at dksX2_follow_0 10 rfl rfl)
theorem dX2_follow_11 : decode cX2_follow 11 = .ok (.putfield 23, 3) := dk_181 0 23 (dk_at dksX2_follow_0 11 rfl rfl)
theorem dX2_follow_14 : decode cX2_follow 14 = .ok (.aload_n 0, 1) := dk_42 (dk_at dksX2_follow_0 14 rfl rfl)
theorem dX2_follow_15 : decode cX2_follow 15 = .ok (.iconst 0, 1) := dk_3 (dk_at dksX2_follow_0 15 rfl rfl)
theorem dX2_follow_16 : decode cX2_follow 16 = .ok (.putfield 180, 3) := dk_181 0 180 (dk_at dksX2_follow_0 16 rfl rfl)
theorem dX2_follow_19 : decode cX2_follow 19 = .ok (.aload_n 0, 1) := dk_42 (dk_at dksX2_follow_0 19 rfl rfl)
theorem dX2_follow_20 : decode cX2_follow 20 = .ok (.iconst (-1), 1) := dk_2 (dk_at dksX2_follow_0 20 rfl rfl)
theorem dX2_follow_21 : decode cX2_follow 21 = .ok (.putfield 44, 3) := dk_181 0 44 (dk_at dksX2_follow_0 21 rfl rfl)
theorem dX2_follow_24 : decode cX2_follow 24 = .ok (.aload_n 0, 1) := dk_42 (dk_at dksX2_follow_1 0 rfl rfl)
theorem dX2_follow_25 : decode cX2_follow 25 = .ok (.iconst 0, 1) := dk_3 (dk_at dksX2_follow_1 1 rfl rfl)
theorem dX2_follow_26 : decode cX2_follow 26 = .ok (.putfield 183, 3) := dk_181 0 183 (dk_at dksX2_follow_1 2 rfl rfl)
theorem dX2_follow_29 : decode cX2_follow 29 = .ok (.return_, 1) := dk_177 (dk_at dksX2_follow_1 5 rfl rfl)
abbrev cX2_stepDown : ByteArray := prog_9_method_11_code
def yX2_stepDown : MethodName := ⟨RX2, "stepDown", "()V"⟩
def dkwX2_stepDown_0 : List UInt8 := [42, 16, 102, 181, 0, 19, 42, 182, 0, 177, 177]
abbrev dktX2_stepDown_0 : List UInt8 := dkwX2_stepDown_0 ++ []
theorem dksX2_stepDown_0 : cX2_stepDown.data.toList.drop 0 = dktX2_stepDown_0 := by decide +kernel
theorem dX2_stepDown_0 : decode cX2_stepDown 0 = .ok (.aload_n 0, 1) := dk_42 (dk_at dksX2_stepDown_0 0 rfl rfl)
theorem dX2_stepDown_1 : decode cX2_stepDown 1 = .ok (.bipush 102, 2) := dk_16 102 (dk_at dksX2_stepDown_0 1 rfl rfl)
theorem dX2_stepDown_3 : decode cX2_stepDown 3 = .ok (.putfield 19, 3) := dk_181 0 19 (dk_at dksX2_stepDown_0 3 rfl rfl)
theorem dX2_stepDown_6 : decode cX2_stepDown 6 = .ok (.aload_n 0, 1) := dk_42 (dk_at dksX2_stepDown_0 6 rfl rfl)
theorem dX2_stepDown_7 : decode cX2_stepDown 7 = .ok (.invokevirtual 177, 3) := dk_182 0 177 (dk_at dksX2_stepDown_0 7 rfl rfl)
theorem dX2_stepDown_10 : decode cX2_stepDown 10 = .ok (.return_, 1) := dk_177 (dk_at dksX2_stepDown_0 10 rfl rfl)
abbrev cX2_loseReads : ByteArray := prog_9_method_10_code
def yX2_loseReads : MethodName := ⟨RX2, "loseReads", "()V"⟩
def dkwX2_loseReads_2 : List UInt8 := [16, 119, 160, 0, 9, 44, 16, 108, 181, 0, 174, 167, 255, 211, 177]
abbrev dktX2_loseReads_2 : List UInt8 := dkwX2_loseReads_2 ++ []
def dkwX2_loseReads_1 : List UInt8 := [185, 0, 166, 1, 0, 192, 0, 169, 77, 44, 180, 0, 171, 42, 180, 0, 60, 160, 0, 18, 44, 180, 0, 174]
abbrev dktX2_loseReads_1 : List UInt8 := dkwX2_loseReads_1 ++ dktX2_loseReads_2
def dkwX2_loseReads_0 : List UInt8 := [42, 180, 0, 3, 180, 0, 154, 182, 0, 157, 76, 43, 185, 0, 161, 1, 0, 153, 0, 42, 43]
abbrev dktX2_loseReads_0 : List UInt8 := dkwX2_loseReads_0 ++ dktX2_loseReads_1
theorem dksX2_loseReads_0 : cX2_loseReads.data.toList.drop 0 = dktX2_loseReads_0 := by decide +kernel
theorem dksX2_loseReads_1 : cX2_loseReads.data.toList.drop 21 = dktX2_loseReads_1 := dk_seg dksX2_loseReads_0 21 rfl rfl
theorem dksX2_loseReads_2 : cX2_loseReads.data.toList.drop 45 = dktX2_loseReads_2 := dk_seg dksX2_loseReads_1 24 rfl rfl
theorem dX2_loseReads_0 : decode cX2_loseReads 0 = .ok (.aload_n 0, 1) := dk_42 (dk_at dksX2_loseReads_0 0 rfl rfl)
theorem dX2_loseReads_1 : decode cX2_loseReads 1 = .ok (.getfield 3, 3) := dk_180 0 3 (dk_at dksX2_loseReads_0 1 rfl rfl)
theorem dX2_loseReads_4 : decode cX2_loseReads 4 = .ok (.getfield 154, 3) := dk_180 0 154 (dk_at dksX2_loseReads_0 4 rfl rfl)
theorem dX2_loseReads_7 : decode cX2_loseReads 7 = .ok (.invokevirtual 157, 3) := dk_182 0 157 (dk_at dksX2_loseReads_0 7 rfl rfl)
theorem dX2_loseReads_10 : decode cX2_loseReads 10 = .ok (.astore_n 1, 1) := dk_76 (dk_at dksX2_loseReads_0 10 rfl rfl)
theorem dX2_loseReads_11 : decode cX2_loseReads 11 = .ok (.aload_n 1, 1) := dk_43 (dk_at dksX2_loseReads_0 11 rfl rfl)
theorem dX2_loseReads_12 : decode cX2_loseReads 12 = .ok (.invokeinterface 161 1, 5) := by decide +kernel
theorem dX2_loseReads_17 : decode cX2_loseReads 17 = .ok (.ifCond .eq 42, 3) := dk_153 0 42 (dk_at dksX2_loseReads_0 17 rfl rfl)
theorem dX2_loseReads_20 : decode cX2_loseReads 20 = .ok (.aload_n 1, 1) := dk_43 (dk_at dksX2_loseReads_0 20 rfl rfl)
theorem dX2_loseReads_21 : decode cX2_loseReads 21 = .ok (.invokeinterface 166 1, 5) := by decide +kernel
theorem dX2_loseReads_26 : decode cX2_loseReads 26 = .ok (.checkcast 169, 3) := dk_192 0 169 (dk_at dksX2_loseReads_1 5 rfl rfl)
theorem dX2_loseReads_29 : decode cX2_loseReads 29 = .ok (.astore_n 2, 1) := dk_77 (dk_at dksX2_loseReads_1 8 rfl rfl)
theorem dX2_loseReads_30 : decode cX2_loseReads 30 = .ok (.aload_n 2, 1) := dk_44 (dk_at dksX2_loseReads_1 9 rfl rfl)
theorem dX2_loseReads_31 : decode cX2_loseReads 31 = .ok (.getfield 171, 3) := dk_180 0 171 (dk_at dksX2_loseReads_1 10 rfl rfl)
theorem dX2_loseReads_34 : decode cX2_loseReads 34 = .ok (.aload_n 0, 1) := dk_42 (dk_at dksX2_loseReads_1 13 rfl rfl)
theorem dX2_loseReads_35 : decode cX2_loseReads 35 = .ok (.getfield 60, 3) := dk_180 0 60 (dk_at dksX2_loseReads_1 14 rfl rfl)
theorem dX2_loseReads_38 : decode cX2_loseReads 38 = .ok (.if_icmp .ne 18, 3) := dk_160 0 18 (dk_at dksX2_loseReads_1 17 rfl rfl)
theorem dX2_loseReads_41 : decode cX2_loseReads 41 = .ok (.aload_n 2, 1) := dk_44 (dk_at dksX2_loseReads_1 20 rfl rfl)
theorem dX2_loseReads_42 : decode cX2_loseReads 42 = .ok (.getfield 174, 3) := dk_180 0 174 (dk_at dksX2_loseReads_1 21 rfl rfl)
theorem dX2_loseReads_45 : decode cX2_loseReads 45 = .ok (.bipush 119, 2) := dk_16 119 (dk_at dksX2_loseReads_2 0 rfl rfl)
theorem dX2_loseReads_47 : decode cX2_loseReads 47 = .ok (.if_icmp .ne 9, 3) := dk_160 0 9 (dk_at dksX2_loseReads_2 2 rfl rfl)
theorem dX2_loseReads_50 : decode cX2_loseReads 50 = .ok (.aload_n 2, 1) := dk_44 (dk_at dksX2_loseReads_2 5 rfl rfl)
theorem dX2_loseReads_51 : decode cX2_loseReads 51 = .ok (.bipush 108, 2) := dk_16 108 (dk_at dksX2_loseReads_2 6 rfl rfl)
theorem dX2_loseReads_53 : decode cX2_loseReads 53 = .ok (.putfield 174, 3) := dk_181 0 174 (dk_at dksX2_loseReads_2 8 rfl rfl)
theorem dX2_loseReads_56 : decode cX2_loseReads 56 = .ok (.goto (-45), 3) := dk_167 255 211 (dk_at dksX2_loseReads_2 11 rfl rfl)
theorem dX2_loseReads_59 : decode cX2_loseReads 59 = .ok (.return_, 1) := dk_177 (dk_at dksX2_loseReads_2 14 rfl rfl)
abbrev cX2_winIfElected : ByteArray := prog_9_method_15_code
def yX2_winIfElected : MethodName := ⟨RX2, "winIfElected", "()V"⟩
def dkwX2_winIfElected_5 : List UInt8 := [182, 0, 230, 177]
abbrev dktX2_winIfElected_5 : List UInt8 := dkwX2_winIfElected_5 ++ []
def dkwX2_winIfElected_4 : List UInt8 := [180, 0, 33, 187, 0, 86, 89, 42, 180, 0, 143, 16, 111, 3, 3, 183, 0, 147, 182, 0, 150, 87, 42]
abbrev dktX2_winIfElected_4 : List UInt8 := dkwX2_winIfElected_4 ++ dktX2_winIfElected_5
def dkwX2_winIfElected_3 : List UInt8 := [180, 0, 54, 27, 3, 79, 132, 1, 1, 167, 255, 222, 42, 182, 0, 79, 16, 80, 162, 0, 26, 42]
abbrev dktX2_winIfElected_3 : List UInt8 := dkwX2_winIfElected_3 ++ dktX2_winIfElected_4
def dkwX2_winIfElected_2 : List UInt8 := [8, 162, 0, 35, 42, 180, 0, 47, 27, 42, 182, 0, 79, 4, 96, 79, 42, 180, 0, 51, 27, 3, 79, 42]
abbrev dktX2_winIfElected_2 : List UInt8 := dkwX2_winIfElected_2 ++ dktX2_winIfElected_3
def dkwX2_winIfElected_1 : List UInt8 := [42, 16, 108, 181, 0, 19, 42, 42, 180, 0, 60, 181, 0, 44, 42, 180, 0, 57, 182, 0, 227, 3, 60, 27]
abbrev dktX2_winIfElected_1 : List UInt8 := dkwX2_winIfElected_1 ++ dktX2_winIfElected_2
def dkwX2_winIfElected_0 : List UInt8 := [42, 180, 0, 19, 16, 99, 160, 0, 17, 42, 182, 0, 136, 42, 180, 0, 196, 182, 0, 224, 154, 0, 4, 177]
abbrev dktX2_winIfElected_0 : List UInt8 := dkwX2_winIfElected_0 ++ dktX2_winIfElected_1
theorem dksX2_winIfElected_0 : cX2_winIfElected.data.toList.drop 0 = dktX2_winIfElected_0 := by decide +kernel
theorem dksX2_winIfElected_1 : cX2_winIfElected.data.toList.drop 24 = dktX2_winIfElected_1 := dk_seg dksX2_winIfElected_0 24 rfl rfl
theorem dksX2_winIfElected_2 : cX2_winIfElected.data.toList.drop 48 = dktX2_winIfElected_2 := dk_seg dksX2_winIfElected_1 24 rfl rfl
theorem dksX2_winIfElected_3 : cX2_winIfElected.data.toList.drop 72 = dktX2_winIfElected_3 := dk_seg dksX2_winIfElected_2 24 rfl rfl
theorem dksX2_winIfElected_4 : cX2_winIfElected.data.toList.drop 94 = dktX2_winIfElected_4 := dk_seg dksX2_winIfElected_3 22 rfl rfl
theorem dksX2_winIfElected_5 : cX2_winIfElected.data.toList.drop 117 = dktX2_winIfElected_5 := dk_seg dksX2_winIfElected_4 23 rfl rfl
theorem dX2_winIfElected_0 : decode cX2_winIfElected 0 = .ok (.aload_n 0, 1) := dk_42 (dk_at dksX2_winIfElected_0 0 rfl rfl)
theorem dX2_winIfElected_1 : decode cX2_winIfElected 1 = .ok (.getfield 19, 3) := dk_180 0 19 (dk_at dksX2_winIfElected_0 1 rfl rfl)
theorem dX2_winIfElected_4 : decode cX2_winIfElected 4 = .ok (.bipush 99, 2) := dk_16 99 (dk_at dksX2_winIfElected_0 4 rfl rfl)
theorem dX2_winIfElected_6 : decode cX2_winIfElected 6 = .ok (.if_icmp .ne 17, 3) := dk_160 0 17 (dk_at dksX2_winIfElected_0 6 rfl rfl)
theorem dX2_winIfElected_9 : decode cX2_winIfElected 9 = .ok (.aload_n 0, 1) := dk_42 (dk_at dksX2_winIfElected_0 9 rfl rfl)
theorem dX2_winIfElected_10 : decode cX2_winIfElected 10 = .ok (.invokevirtual 136, 3) := dk_182 0 136 (dk_at dksX2_winIfElected_0 10 rfl rfl)
theorem dX2_winIfElected_13 : decode cX2_winIfElected 13 = .ok (.aload_n 0, 1) := dk_42 (dk_at dksX2_winIfElected_0 13 rfl rfl)
theorem dX2_winIfElected_14 : decode cX2_winIfElected 14 = .ok (.getfield 196, 3) := dk_180 0 196 (dk_at dksX2_winIfElected_0 14 rfl rfl)
theorem dX2_winIfElected_17 : decode cX2_winIfElected 17 = .ok (.invokevirtual 224, 3) := dk_182 0 224 (dk_at dksX2_winIfElected_0 17 rfl rfl)
theorem dX2_winIfElected_20 : decode cX2_winIfElected 20 = .ok (.ifCond .ne 4, 3) := dk_154 0 4 (dk_at dksX2_winIfElected_0 20 rfl rfl)
theorem dX2_winIfElected_23 : decode cX2_winIfElected 23 = .ok (.return_, 1) := dk_177 (dk_at dksX2_winIfElected_0 23 rfl rfl)
theorem dX2_winIfElected_24 : decode cX2_winIfElected 24 = .ok (.aload_n 0, 1) := dk_42 (dk_at dksX2_winIfElected_1 0 rfl rfl)
theorem dX2_winIfElected_25 : decode cX2_winIfElected 25 = .ok (.bipush 108, 2) := dk_16 108 (dk_at dksX2_winIfElected_1 1 rfl rfl)
theorem dX2_winIfElected_27 : decode cX2_winIfElected 27 = .ok (.putfield 19, 3) := dk_181 0 19 (dk_at dksX2_winIfElected_1 3 rfl rfl)
theorem dX2_winIfElected_30 : decode cX2_winIfElected 30 = .ok (.aload_n 0, 1) := dk_42 (dk_at dksX2_winIfElected_1 6 rfl rfl)
theorem dX2_winIfElected_31 : decode cX2_winIfElected 31 = .ok (.aload_n 0, 1) := dk_42 (dk_at dksX2_winIfElected_1 7 rfl rfl)
theorem dX2_winIfElected_32 : decode cX2_winIfElected 32 = .ok (.getfield 60, 3) := dk_180 0 60 (dk_at dksX2_winIfElected_1 8 rfl rfl)
theorem dX2_winIfElected_35 : decode cX2_winIfElected 35 = .ok (.putfield 44, 3) := dk_181 0 44 (dk_at dksX2_winIfElected_1 11 rfl rfl)
theorem dX2_winIfElected_38 : decode cX2_winIfElected 38 = .ok (.aload_n 0, 1) := dk_42 (dk_at dksX2_winIfElected_1 14 rfl rfl)
theorem dX2_winIfElected_39 : decode cX2_winIfElected 39 = .ok (.getfield 57, 3) := dk_180 0 57 (dk_at dksX2_winIfElected_1 15 rfl rfl)
theorem dX2_winIfElected_42 : decode cX2_winIfElected 42 = .ok (.invokevirtual 227, 3) := dk_182 0 227 (dk_at dksX2_winIfElected_1 18 rfl rfl)
theorem dX2_winIfElected_45 : decode cX2_winIfElected 45 = .ok (.iconst 0, 1) := dk_3 (dk_at dksX2_winIfElected_1 21 rfl rfl)
theorem dX2_winIfElected_46 : decode cX2_winIfElected 46 = .ok (.istore_n 1, 1) := dk_60 (dk_at dksX2_winIfElected_1 22 rfl rfl)
theorem dX2_winIfElected_47 : decode cX2_winIfElected 47 = .ok (.iload_n 1, 1) := dk_27 (dk_at dksX2_winIfElected_1 23 rfl rfl)
theorem dX2_winIfElected_48 : decode cX2_winIfElected 48 = .ok (.iconst 5, 1) := dk_8 (dk_at dksX2_winIfElected_2 0 rfl rfl)
theorem dX2_winIfElected_49 : decode cX2_winIfElected 49 = .ok (.if_icmp .ge 35, 3) := dk_162 0 35 (dk_at dksX2_winIfElected_2 1 rfl rfl)
theorem dX2_winIfElected_52 : decode cX2_winIfElected 52 = .ok (.aload_n 0, 1) := dk_42 (dk_at dksX2_winIfElected_2 4 rfl rfl)
theorem dX2_winIfElected_53 : decode cX2_winIfElected 53 = .ok (.getfield 47, 3) := dk_180 0 47 (dk_at dksX2_winIfElected_2 5 rfl rfl)
theorem dX2_winIfElected_56 : decode cX2_winIfElected 56 = .ok (.iload_n 1, 1) := dk_27 (dk_at dksX2_winIfElected_2 8 rfl rfl)
theorem dX2_winIfElected_57 : decode cX2_winIfElected 57 = .ok (.aload_n 0, 1) := dk_42 (dk_at dksX2_winIfElected_2 9 rfl rfl)
theorem dX2_winIfElected_58 : decode cX2_winIfElected 58 = .ok (.invokevirtual 79, 3) := dk_182 0 79 (dk_at dksX2_winIfElected_2 10 rfl rfl)
theorem dX2_winIfElected_61 : decode cX2_winIfElected 61 = .ok (.iconst 1, 1) := dk_4 (dk_at dksX2_winIfElected_2 13 rfl rfl)
theorem dX2_winIfElected_62 : decode cX2_winIfElected 62 = .ok (.iadd, 1) := dk_96 (dk_at dksX2_winIfElected_2 14 rfl rfl)
theorem dX2_winIfElected_63 : decode cX2_winIfElected 63 = .ok (.iastore, 1) := dk_79 (dk_at dksX2_winIfElected_2 15 rfl rfl)
theorem dX2_winIfElected_64 : decode cX2_winIfElected 64 = .ok (.aload_n 0, 1) := dk_42 (dk_at dksX2_winIfElected_2 16 rfl rfl)
theorem dX2_winIfElected_65 : decode cX2_winIfElected 65 = .ok (.getfield 51, 3) := dk_180 0 51 (dk_at dksX2_winIfElected_2 17 rfl rfl)
theorem dX2_winIfElected_68 : decode cX2_winIfElected 68 = .ok (.iload_n 1, 1) := dk_27 (dk_at dksX2_winIfElected_2 20 rfl rfl)
theorem dX2_winIfElected_69 : decode cX2_winIfElected 69 = .ok (.iconst 0, 1) := dk_3 (dk_at dksX2_winIfElected_2 21 rfl rfl)
theorem dX2_winIfElected_70 : decode cX2_winIfElected 70 = .ok (.iastore, 1) := dk_79 (dk_at dksX2_winIfElected_2 22 rfl rfl)
theorem dX2_winIfElected_71 : decode cX2_winIfElected 71 = .ok (.aload_n 0, 1) := dk_42 (dk_at dksX2_winIfElected_2 23 rfl rfl)
theorem dX2_winIfElected_72 : decode cX2_winIfElected 72 = .ok (.getfield 54, 3) := dk_180 0 54 (dk_at dksX2_winIfElected_3 0 rfl rfl)
theorem dX2_winIfElected_75 : decode cX2_winIfElected 75 = .ok (.iload_n 1, 1) := dk_27 (dk_at dksX2_winIfElected_3 3 rfl rfl)
theorem dX2_winIfElected_76 : decode cX2_winIfElected 76 = .ok (.iconst 0, 1) := dk_3 (dk_at dksX2_winIfElected_3 4 rfl rfl)
theorem dX2_winIfElected_77 : decode cX2_winIfElected 77 = .ok (.iastore, 1) := dk_79 (dk_at dksX2_winIfElected_3 5 rfl rfl)
theorem dX2_winIfElected_78 : decode cX2_winIfElected 78 = .ok (.iinc 1 1, 3) := dk_132 1 1 (dk_at dksX2_winIfElected_3 6 rfl rfl)
theorem dX2_winIfElected_81 : decode cX2_winIfElected 81 = .ok (.goto (-34), 3) := dk_167 255 222 (dk_at dksX2_winIfElected_3 9 rfl rfl)
theorem dX2_winIfElected_84 : decode cX2_winIfElected 84 = .ok (.aload_n 0, 1) := dk_42 (dk_at dksX2_winIfElected_3 12 rfl rfl)
theorem dX2_winIfElected_85 : decode cX2_winIfElected 85 = .ok (.invokevirtual 79, 3) := dk_182 0 79 (dk_at dksX2_winIfElected_3 13 rfl rfl)
theorem dX2_winIfElected_88 : decode cX2_winIfElected 88 = .ok (.bipush 80, 2) := dk_16 80 (dk_at dksX2_winIfElected_3 16 rfl rfl)
theorem dX2_winIfElected_90 : decode cX2_winIfElected 90 = .ok (.if_icmp .ge 26, 3) := dk_162 0 26 (dk_at dksX2_winIfElected_3 18 rfl rfl)
theorem dX2_winIfElected_93 : decode cX2_winIfElected 93 = .ok (.aload_n 0, 1) := dk_42 (dk_at dksX2_winIfElected_3 21 rfl rfl)
theorem dX2_winIfElected_94 : decode cX2_winIfElected 94 = .ok (.getfield 33, 3) := dk_180 0 33 (dk_at dksX2_winIfElected_4 0 rfl rfl)
theorem dX2_winIfElected_97 : decode cX2_winIfElected 97 = .ok (.new 86, 3) := dk_187 0 86 (dk_at dksX2_winIfElected_4 3 rfl rfl)
theorem dX2_winIfElected_100 : decode cX2_winIfElected 100 = .ok (.dup, 1) := dk_89 (dk_at dksX2_winIfElected_4 6 rfl rfl)
theorem dX2_winIfElected_101 : decode cX2_winIfElected 101 = .ok (.aload_n 0, 1) := dk_42 (dk_at dksX2_winIfElected_4 7 rfl rfl)
theorem dX2_winIfElected_102 : decode cX2_winIfElected 102 = .ok (.getfield 143, 3) := dk_180 0 143 (dk_at dksX2_winIfElected_4 8 rfl rfl)
theorem dX2_winIfElected_105 : decode cX2_winIfElected 105 = .ok (.bipush 111, 2) := dk_16 111 (dk_at dksX2_winIfElected_4 11 rfl rfl)
theorem dX2_winIfElected_107 : decode cX2_winIfElected 107 = .ok (.iconst 0, 1) := dk_3 (dk_at dksX2_winIfElected_4 13 rfl rfl)
theorem dX2_winIfElected_108 : decode cX2_winIfElected 108 = .ok (.iconst 0, 1) := dk_3 (dk_at dksX2_winIfElected_4 14 rfl rfl)
theorem dX2_winIfElected_109 : decode cX2_winIfElected 109 = .ok (.invokespecial 147, 3) := dk_183 0 147 (dk_at dksX2_winIfElected_4 15 rfl rfl)
theorem dX2_winIfElected_112 : decode cX2_winIfElected 112 = .ok (.invokevirtual 150, 3) := dk_182 0 150 (dk_at dksX2_winIfElected_4 18 rfl rfl)
theorem dX2_winIfElected_115 : decode cX2_winIfElected 115 = .ok (.pop, 1) := dk_87 (dk_at dksX2_winIfElected_4 21 rfl rfl)
theorem dX2_winIfElected_116 : decode cX2_winIfElected 116 = .ok (.aload_n 0, 1) := dk_42 (dk_at dksX2_winIfElected_4 22 rfl rfl)
theorem dX2_winIfElected_117 : decode cX2_winIfElected 117 = .ok (.invokevirtual 230, 3) := dk_182 0 230 (dk_at dksX2_winIfElected_5 0 rfl rfl)
theorem dX2_winIfElected_120 : decode cX2_winIfElected 120 = .ok (.return_, 1) := dk_177 (dk_at dksX2_winIfElected_5 3 rfl rfl)
abbrev cX2_sync : ByteArray := prog_9_method_34_code
def yX2_sync : MethodName := ⟨RX2, "sync", "()I"⟩
def dkwX2_sync_4 : List UInt8 := [180, 0, 180, 42, 180, 1, 59, 184, 1, 62, 183, 1, 31, 182, 0, 217, 27, 172]
abbrev dktX2_sync_4 : List UInt8 := dkwX2_sync_4 ++ []
def dkwX2_sync_3 : List UInt8 := [182, 0, 207, 42, 180, 0, 60, 42, 180, 0, 44, 42, 180, 0, 143, 42, 180, 0, 183, 16, 97, 42]
abbrev dktX2_sync_3 : List UInt8 := dkwX2_sync_3 ++ dktX2_sync_4
def dkwX2_sync_2 : List UInt8 := [180, 0, 44, 42, 180, 0, 60, 159, 0, 53, 42, 180, 0, 3, 187, 1, 29, 89, 42, 180, 0, 3]
abbrev dktX2_sync_2 : List UInt8 := dkwX2_sync_2 ++ dktX2_sync_3
def dkwX2_sync_1 : List UInt8 := [160, 0, 14, 42, 182, 1, 107, 42, 182, 1, 7, 167, 0, 72, 42, 180, 0, 44, 2, 159, 0, 64, 42]
abbrev dktX2_sync_1 : List UInt8 := dkwX2_sync_1 ++ dktX2_sync_2
def dkwX2_sync_0 : List UInt8 := [42, 182, 0, 79, 42, 180, 1, 59, 100, 60, 42, 42, 182, 0, 79, 181, 1, 59, 42, 180, 0, 19, 16, 108]
abbrev dktX2_sync_0 : List UInt8 := dkwX2_sync_0 ++ dktX2_sync_1
theorem dksX2_sync_0 : cX2_sync.data.toList.drop 0 = dktX2_sync_0 := by decide +kernel
theorem dksX2_sync_1 : cX2_sync.data.toList.drop 24 = dktX2_sync_1 := dk_seg dksX2_sync_0 24 rfl rfl
theorem dksX2_sync_2 : cX2_sync.data.toList.drop 47 = dktX2_sync_2 := dk_seg dksX2_sync_1 23 rfl rfl
theorem dksX2_sync_3 : cX2_sync.data.toList.drop 69 = dktX2_sync_3 := dk_seg dksX2_sync_2 22 rfl rfl
theorem dksX2_sync_4 : cX2_sync.data.toList.drop 91 = dktX2_sync_4 := dk_seg dksX2_sync_3 22 rfl rfl
theorem dX2_sync_0 : decode cX2_sync 0 = .ok (.aload_n 0, 1) := dk_42 (dk_at dksX2_sync_0 0 rfl rfl)
theorem dX2_sync_1 : decode cX2_sync 1 = .ok (.invokevirtual 79, 3) := dk_182 0 79 (dk_at dksX2_sync_0 1 rfl rfl)
theorem dX2_sync_4 : decode cX2_sync 4 = .ok (.aload_n 0, 1) := dk_42 (dk_at dksX2_sync_0 4 rfl rfl)
theorem dX2_sync_5 : decode cX2_sync 5 = .ok (.getfield 315, 3) := dk_180 1 59 (dk_at dksX2_sync_0 5 rfl rfl)
theorem dX2_sync_8 : decode cX2_sync 8 = .ok (.isub, 1) := dk_100 (dk_at dksX2_sync_0 8 rfl rfl)
theorem dX2_sync_9 : decode cX2_sync 9 = .ok (.istore_n 1, 1) := dk_60 (dk_at dksX2_sync_0 9 rfl rfl)
theorem dX2_sync_10 : decode cX2_sync 10 = .ok (.aload_n 0, 1) := dk_42 (dk_at dksX2_sync_0 10 rfl rfl)
theorem dX2_sync_11 : decode cX2_sync 11 = .ok (.aload_n 0, 1) := dk_42 (dk_at dksX2_sync_0 11 rfl rfl)
theorem dX2_sync_12 : decode cX2_sync 12 = .ok (.invokevirtual 79, 3) := dk_182 0 79 (dk_at dksX2_sync_0 12 rfl rfl)
theorem dX2_sync_15 : decode cX2_sync 15 = .ok (.putfield 315, 3) := dk_181 1 59 (dk_at dksX2_sync_0 15 rfl rfl)
theorem dX2_sync_18 : decode cX2_sync 18 = .ok (.aload_n 0, 1) := dk_42 (dk_at dksX2_sync_0 18 rfl rfl)
theorem dX2_sync_19 : decode cX2_sync 19 = .ok (.getfield 19, 3) := dk_180 0 19 (dk_at dksX2_sync_0 19 rfl rfl)
theorem dX2_sync_22 : decode cX2_sync 22 = .ok (.bipush 108, 2) := dk_16 108 (dk_at dksX2_sync_0 22 rfl rfl)
theorem dX2_sync_24 : decode cX2_sync 24 = .ok (.if_icmp .ne 14, 3) := dk_160 0 14 (dk_at dksX2_sync_1 0 rfl rfl)
theorem dX2_sync_27 : decode cX2_sync 27 = .ok (.aload_n 0, 1) := dk_42 (dk_at dksX2_sync_1 3 rfl rfl)
theorem dX2_sync_28 : decode cX2_sync 28 = .ok (.invokevirtual 363, 3) := dk_182 1 107 (dk_at dksX2_sync_1 4 rfl rfl)
theorem dX2_sync_31 : decode cX2_sync 31 = .ok (.aload_n 0, 1) := dk_42 (dk_at dksX2_sync_1 7 rfl rfl)
theorem dX2_sync_32 : decode cX2_sync 32 = .ok (.invokevirtual 263, 3) := dk_182 1 7 (dk_at dksX2_sync_1 8 rfl rfl)
theorem dX2_sync_35 : decode cX2_sync 35 = .ok (.goto 72, 3) := dk_167 0 72 (dk_at dksX2_sync_1 11 rfl rfl)
theorem dX2_sync_38 : decode cX2_sync 38 = .ok (.aload_n 0, 1) := dk_42 (dk_at dksX2_sync_1 14 rfl rfl)
theorem dX2_sync_39 : decode cX2_sync 39 = .ok (.getfield 44, 3) := dk_180 0 44 (dk_at dksX2_sync_1 15 rfl rfl)
theorem dX2_sync_42 : decode cX2_sync 42 = .ok (.iconst (-1), 1) := dk_2 (dk_at dksX2_sync_1 18 rfl rfl)
theorem dX2_sync_43 : decode cX2_sync 43 = .ok (.if_icmp .eq 64, 3) := dk_159 0 64 (dk_at dksX2_sync_1 19 rfl rfl)
theorem dX2_sync_46 : decode cX2_sync 46 = .ok (.aload_n 0, 1) := dk_42 (dk_at dksX2_sync_1 22 rfl rfl)
theorem dX2_sync_47 : decode cX2_sync 47 = .ok (.getfield 44, 3) := dk_180 0 44 (dk_at dksX2_sync_2 0 rfl rfl)
theorem dX2_sync_50 : decode cX2_sync 50 = .ok (.aload_n 0, 1) := dk_42 (dk_at dksX2_sync_2 3 rfl rfl)
theorem dX2_sync_51 : decode cX2_sync 51 = .ok (.getfield 60, 3) := dk_180 0 60 (dk_at dksX2_sync_2 4 rfl rfl)
theorem dX2_sync_54 : decode cX2_sync 54 = .ok (.if_icmp .eq 53, 3) := dk_159 0 53 (dk_at dksX2_sync_2 7 rfl rfl)
theorem dX2_sync_57 : decode cX2_sync 57 = .ok (.aload_n 0, 1) := dk_42 (dk_at dksX2_sync_2 10 rfl rfl)
theorem dX2_sync_58 : decode cX2_sync 58 = .ok (.getfield 3, 3) := dk_180 0 3 (dk_at dksX2_sync_2 11 rfl rfl)
theorem dX2_sync_61 : decode cX2_sync 61 = .ok (.new 285, 3) := dk_187 1 29 (dk_at dksX2_sync_2 14 rfl rfl)
theorem dX2_sync_64 : decode cX2_sync 64 = .ok (.dup, 1) := dk_89 (dk_at dksX2_sync_2 17 rfl rfl)
theorem dX2_sync_65 : decode cX2_sync 65 = .ok (.aload_n 0, 1) := dk_42 (dk_at dksX2_sync_2 18 rfl rfl)
theorem dX2_sync_66 : decode cX2_sync 66 = .ok (.getfield 3, 3) := dk_180 0 3 (dk_at dksX2_sync_2 19 rfl rfl)
theorem dX2_sync_69 : decode cX2_sync 69 = .ok (.invokevirtual 207, 3) := dk_182 0 207 (dk_at dksX2_sync_3 0 rfl rfl)
theorem dX2_sync_72 : decode cX2_sync 72 = .ok (.aload_n 0, 1) := dk_42 (dk_at dksX2_sync_3 3 rfl rfl)
theorem dX2_sync_73 : decode cX2_sync 73 = .ok (.getfield 60, 3) := dk_180 0 60 (dk_at dksX2_sync_3 4 rfl rfl)
theorem dX2_sync_76 : decode cX2_sync 76 = .ok (.aload_n 0, 1) := dk_42 (dk_at dksX2_sync_3 7 rfl rfl)
theorem dX2_sync_77 : decode cX2_sync 77 = .ok (.getfield 44, 3) := dk_180 0 44 (dk_at dksX2_sync_3 8 rfl rfl)
theorem dX2_sync_80 : decode cX2_sync 80 = .ok (.aload_n 0, 1) := dk_42 (dk_at dksX2_sync_3 11 rfl rfl)
theorem dX2_sync_81 : decode cX2_sync 81 = .ok (.getfield 143, 3) := dk_180 0 143 (dk_at dksX2_sync_3 12 rfl rfl)
theorem dX2_sync_84 : decode cX2_sync 84 = .ok (.aload_n 0, 1) := dk_42 (dk_at dksX2_sync_3 15 rfl rfl)
theorem dX2_sync_85 : decode cX2_sync 85 = .ok (.getfield 183, 3) := dk_180 0 183 (dk_at dksX2_sync_3 16 rfl rfl)
theorem dX2_sync_88 : decode cX2_sync 88 = .ok (.bipush 97, 2) := dk_16 97 (dk_at dksX2_sync_3 19 rfl rfl)
theorem dX2_sync_90 : decode cX2_sync 90 = .ok (.aload_n 0, 1) := dk_42 (dk_at dksX2_sync_3 21 rfl rfl)
theorem dX2_sync_91 : decode cX2_sync 91 = .ok (.getfield 180, 3) := dk_180 0 180 (dk_at dksX2_sync_4 0 rfl rfl)
theorem dX2_sync_94 : decode cX2_sync 94 = .ok (.aload_n 0, 1) := dk_42 (dk_at dksX2_sync_4 3 rfl rfl)
theorem dX2_sync_95 : decode cX2_sync 95 = .ok (.getfield 315, 3) := dk_180 1 59 (dk_at dksX2_sync_4 4 rfl rfl)
theorem dX2_sync_98 : decode cX2_sync 98 = .ok (.invokestatic 318, 3) := dk_184 1 62 (dk_at dksX2_sync_4 7 rfl rfl)
theorem dX2_sync_101 : decode cX2_sync 101 = .ok (.invokespecial 287, 3) := dk_183 1 31 (dk_at dksX2_sync_4 10 rfl rfl)
theorem dX2_sync_104 : decode cX2_sync 104 = .ok (.invokevirtual 217, 3) := dk_182 0 217 (dk_at dksX2_sync_4 13 rfl rfl)
theorem dX2_sync_107 : decode cX2_sync 107 = .ok (.iload_n 1, 1) := dk_27 (dk_at dksX2_sync_4 16 rfl rfl)
theorem dX2_sync_108 : decode cX2_sync 108 = .ok (.ireturn, 1) := dk_172 (dk_at dksX2_sync_4 17 rfl rfl)
abbrev cX2_commitWhatAgrees : ByteArray := prog_9_method_28_code
def yX2_commitWhatAgrees : MethodName := ⟨RX2, "commitWhatAgrees", "()V"⟩
def dkwX2_commitWhatAgrees_5 : List UInt8 := [177]
abbrev dktX2_commitWhatAgrees_5 : List UInt8 := dkwX2_commitWhatAgrees_5 ++ []
def dkwX2_commitWhatAgrees_4 : List UInt8 := [182, 0, 224, 153, 0, 15, 42, 27, 182, 1, 87, 42, 182, 1, 110, 167, 0, 9, 132, 1, 255, 167, 255, 147]
abbrev dktX2_commitWhatAgrees_4 : List UInt8 := dkwX2_commitWhatAgrees_4 ++ dktX2_commitWhatAgrees_5
def dkwX2_commitWhatAgrees_3 : List UInt8 := [161, 0, 9, 4, 29, 120, 167, 0, 4, 3, 128, 61, 132, 3, 1, 167, 255, 220, 42, 182, 0, 136, 28]
abbrev dktX2_commitWhatAgrees_3 : List UInt8 := dkwX2_commitWhatAgrees_3 ++ dktX2_commitWhatAgrees_4
def dkwX2_commitWhatAgrees_2 : List UInt8 := [61, 3, 62, 29, 8, 162, 0, 37, 28, 29, 42, 180, 0, 60, 159, 0, 19, 42, 180, 0, 51, 29, 46, 27]
abbrev dktX2_commitWhatAgrees_2 : List UInt8 := dkwX2_commitWhatAgrees_2 ++ dktX2_commitWhatAgrees_3
def dkwX2_commitWhatAgrees_1 : List UInt8 := [159, 0, 6, 167, 0, 92, 42, 180, 1, 59, 27, 161, 0, 12, 4, 42, 180, 0, 60, 120, 167, 0, 4, 3]
abbrev dktX2_commitWhatAgrees_1 : List UInt8 := dkwX2_commitWhatAgrees_1 ++ dktX2_commitWhatAgrees_2
def dkwX2_commitWhatAgrees_0 : List UInt8 := [42, 182, 0, 79, 60, 27, 42, 180, 0, 114, 164, 0, 107, 42, 27, 182, 0, 210, 42, 180, 0, 143]
abbrev dktX2_commitWhatAgrees_0 : List UInt8 := dkwX2_commitWhatAgrees_0 ++ dktX2_commitWhatAgrees_1
theorem dksX2_commitWhatAgrees_0 : cX2_commitWhatAgrees.data.toList.drop 0 = dktX2_commitWhatAgrees_0 := by decide +kernel
theorem dksX2_commitWhatAgrees_1 : cX2_commitWhatAgrees.data.toList.drop 22 = dktX2_commitWhatAgrees_1 := dk_seg dksX2_commitWhatAgrees_0 22 rfl rfl
theorem dksX2_commitWhatAgrees_2 : cX2_commitWhatAgrees.data.toList.drop 46 = dktX2_commitWhatAgrees_2 := dk_seg dksX2_commitWhatAgrees_1 24 rfl rfl
theorem dksX2_commitWhatAgrees_3 : cX2_commitWhatAgrees.data.toList.drop 70 = dktX2_commitWhatAgrees_3 := dk_seg dksX2_commitWhatAgrees_2 24 rfl rfl
theorem dksX2_commitWhatAgrees_4 : cX2_commitWhatAgrees.data.toList.drop 93 = dktX2_commitWhatAgrees_4 := dk_seg dksX2_commitWhatAgrees_3 23 rfl rfl
theorem dksX2_commitWhatAgrees_5 : cX2_commitWhatAgrees.data.toList.drop 117 = dktX2_commitWhatAgrees_5 := dk_seg dksX2_commitWhatAgrees_4 24 rfl rfl
theorem dX2_commitWhatAgrees_0 : decode cX2_commitWhatAgrees 0 = .ok (.aload_n 0, 1) := dk_42 (dk_at dksX2_commitWhatAgrees_0 0 rfl rfl)
theorem dX2_commitWhatAgrees_1 : decode cX2_commitWhatAgrees 1 = .ok (.invokevirtual 79, 3) := dk_182 0 79 (dk_at dksX2_commitWhatAgrees_0 1 rfl rfl)
theorem dX2_commitWhatAgrees_4 : decode cX2_commitWhatAgrees 4 = .ok (.istore_n 1, 1) := dk_60 (dk_at dksX2_commitWhatAgrees_0 4 rfl rfl)
theorem dX2_commitWhatAgrees_5 : decode cX2_commitWhatAgrees 5 = .ok (.iload_n 1, 1) := dk_27 (dk_at dksX2_commitWhatAgrees_0 5 rfl rfl)
theorem dX2_commitWhatAgrees_6 : decode cX2_commitWhatAgrees 6 = .ok (.aload_n 0, 1) := dk_42 (dk_at dksX2_commitWhatAgrees_0 6 rfl rfl)
theorem dX2_commitWhatAgrees_7 : decode cX2_commitWhatAgrees 7 = .ok (.getfield 114, 3) := dk_180 0 114 (dk_at dksX2_commitWhatAgrees_0 7 rfl rfl)
theorem dX2_commitWhatAgrees_10 : decode cX2_commitWhatAgrees 10 = .ok (.if_icmp .le 107, 3) := dk_164 0 107 (dk_at dksX2_commitWhatAgrees_0 10 rfl rfl)
theorem dX2_commitWhatAgrees_13 : decode cX2_commitWhatAgrees 13 = .ok (.aload_n 0, 1) := dk_42 (dk_at dksX2_commitWhatAgrees_0 13 rfl rfl)
theorem dX2_commitWhatAgrees_14 : decode cX2_commitWhatAgrees 14 = .ok (.iload_n 1, 1) := dk_27 (dk_at dksX2_commitWhatAgrees_0 14 rfl rfl)
theorem dX2_commitWhatAgrees_15 : decode cX2_commitWhatAgrees 15 = .ok (.invokevirtual 210, 3) := dk_182 0 210 (dk_at dksX2_commitWhatAgrees_0 15 rfl rfl)
theorem dX2_commitWhatAgrees_18 : decode cX2_commitWhatAgrees 18 = .ok (.aload_n 0, 1) := dk_42 (dk_at dksX2_commitWhatAgrees_0 18 rfl rfl)
theorem dX2_commitWhatAgrees_19 : decode cX2_commitWhatAgrees 19 = .ok (.getfield 143, 3) := dk_180 0 143 (dk_at dksX2_commitWhatAgrees_0 19 rfl rfl)
theorem dX2_commitWhatAgrees_22 : decode cX2_commitWhatAgrees 22 = .ok (.if_icmp .eq 6, 3) := dk_159 0 6 (dk_at dksX2_commitWhatAgrees_1 0 rfl rfl)
theorem dX2_commitWhatAgrees_25 : decode cX2_commitWhatAgrees 25 = .ok (.goto 92, 3) := dk_167 0 92 (dk_at dksX2_commitWhatAgrees_1 3 rfl rfl)
theorem dX2_commitWhatAgrees_28 : decode cX2_commitWhatAgrees 28 = .ok (.aload_n 0, 1) := dk_42 (dk_at dksX2_commitWhatAgrees_1 6 rfl rfl)
theorem dX2_commitWhatAgrees_29 : decode cX2_commitWhatAgrees 29 = .ok (.getfield 315, 3) := dk_180 1 59 (dk_at dksX2_commitWhatAgrees_1 7 rfl rfl)
theorem dX2_commitWhatAgrees_32 : decode cX2_commitWhatAgrees 32 = .ok (.iload_n 1, 1) := dk_27 (dk_at dksX2_commitWhatAgrees_1 10 rfl rfl)
theorem dX2_commitWhatAgrees_33 : decode cX2_commitWhatAgrees 33 = .ok (.if_icmp .lt 12, 3) := dk_161 0 12 (dk_at dksX2_commitWhatAgrees_1 11 rfl rfl)
theorem dX2_commitWhatAgrees_36 : decode cX2_commitWhatAgrees 36 = .ok (.iconst 1, 1) := dk_4 (dk_at dksX2_commitWhatAgrees_1 14 rfl rfl)
theorem dX2_commitWhatAgrees_37 : decode cX2_commitWhatAgrees 37 = .ok (.aload_n 0, 1) := dk_42 (dk_at dksX2_commitWhatAgrees_1 15 rfl rfl)
theorem dX2_commitWhatAgrees_38 : decode cX2_commitWhatAgrees 38 = .ok (.getfield 60, 3) := dk_180 0 60 (dk_at dksX2_commitWhatAgrees_1 16 rfl rfl)
theorem dX2_commitWhatAgrees_41 : decode cX2_commitWhatAgrees 41 = .ok (.ishl, 1) := dk_120 (dk_at dksX2_commitWhatAgrees_1 19 rfl rfl)
theorem dX2_commitWhatAgrees_42 : decode cX2_commitWhatAgrees 42 = .ok (.goto 4, 3) := dk_167 0 4 (dk_at dksX2_commitWhatAgrees_1 20 rfl rfl)
theorem dX2_commitWhatAgrees_45 : decode cX2_commitWhatAgrees 45 = .ok (.iconst 0, 1) := dk_3 (dk_at dksX2_commitWhatAgrees_1 23 rfl rfl)
theorem dX2_commitWhatAgrees_46 : decode cX2_commitWhatAgrees 46 = .ok (.istore_n 2, 1) := dk_61 (dk_at dksX2_commitWhatAgrees_2 0 rfl rfl)
theorem dX2_commitWhatAgrees_47 : decode cX2_commitWhatAgrees 47 = .ok (.iconst 0, 1) := dk_3 (dk_at dksX2_commitWhatAgrees_2 1 rfl rfl)
theorem dX2_commitWhatAgrees_48 : decode cX2_commitWhatAgrees 48 = .ok (.istore_n 3, 1) := dk_62 (dk_at dksX2_commitWhatAgrees_2 2 rfl rfl)
theorem dX2_commitWhatAgrees_49 : decode cX2_commitWhatAgrees 49 = .ok (.iload_n 3, 1) := dk_29 (dk_at dksX2_commitWhatAgrees_2 3 rfl rfl)
theorem dX2_commitWhatAgrees_50 : decode cX2_commitWhatAgrees 50 = .ok (.iconst 5, 1) := dk_8 (dk_at dksX2_commitWhatAgrees_2 4 rfl rfl)
theorem dX2_commitWhatAgrees_51 : decode cX2_commitWhatAgrees 51 = .ok (.if_icmp .ge 37, 3) := dk_162 0 37 (dk_at dksX2_commitWhatAgrees_2 5 rfl rfl)
theorem dX2_commitWhatAgrees_54 : decode cX2_commitWhatAgrees 54 = .ok (.iload_n 2, 1) := dk_28 (dk_at dksX2_commitWhatAgrees_2 8 rfl rfl)
theorem dX2_commitWhatAgrees_55 : decode cX2_commitWhatAgrees 55 = .ok (.iload_n 3, 1) := dk_29 (dk_at dksX2_commitWhatAgrees_2 9 rfl rfl)
theorem dX2_commitWhatAgrees_56 : decode cX2_commitWhatAgrees 56 = .ok (.aload_n 0, 1) := dk_42 (dk_at dksX2_commitWhatAgrees_2 10 rfl rfl)
theorem dX2_commitWhatAgrees_57 : decode cX2_commitWhatAgrees 57 = .ok (.getfield 60, 3) := dk_180 0 60 (dk_at dksX2_commitWhatAgrees_2 11 rfl rfl)
theorem dX2_commitWhatAgrees_60 : decode cX2_commitWhatAgrees 60 = .ok (.if_icmp .eq 19, 3) := dk_159 0 19 (dk_at dksX2_commitWhatAgrees_2 14 rfl rfl)
theorem dX2_commitWhatAgrees_63 : decode cX2_commitWhatAgrees 63 = .ok (.aload_n 0, 1) := dk_42 (dk_at dksX2_commitWhatAgrees_2 17 rfl rfl)
theorem dX2_commitWhatAgrees_64 : decode cX2_commitWhatAgrees 64 = .ok (.getfield 51, 3) := dk_180 0 51 (dk_at dksX2_commitWhatAgrees_2 18 rfl rfl)
theorem dX2_commitWhatAgrees_67 : decode cX2_commitWhatAgrees 67 = .ok (.iload_n 3, 1) := dk_29 (dk_at dksX2_commitWhatAgrees_2 21 rfl rfl)
theorem dX2_commitWhatAgrees_68 : decode cX2_commitWhatAgrees 68 = .ok (.iaload, 1) := dk_46 (dk_at dksX2_commitWhatAgrees_2 22 rfl rfl)
theorem dX2_commitWhatAgrees_69 : decode cX2_commitWhatAgrees 69 = .ok (.iload_n 1, 1) := dk_27 (dk_at dksX2_commitWhatAgrees_2 23 rfl rfl)
theorem dX2_commitWhatAgrees_70 : decode cX2_commitWhatAgrees 70 = .ok (.if_icmp .lt 9, 3) := dk_161 0 9 (dk_at dksX2_commitWhatAgrees_3 0 rfl rfl)
theorem dX2_commitWhatAgrees_73 : decode cX2_commitWhatAgrees 73 = .ok (.iconst 1, 1) := dk_4 (dk_at dksX2_commitWhatAgrees_3 3 rfl rfl)
theorem dX2_commitWhatAgrees_74 : decode cX2_commitWhatAgrees 74 = .ok (.iload_n 3, 1) := dk_29 (dk_at dksX2_commitWhatAgrees_3 4 rfl rfl)
theorem dX2_commitWhatAgrees_75 : decode cX2_commitWhatAgrees 75 = .ok (.ishl, 1) := dk_120 (dk_at dksX2_commitWhatAgrees_3 5 rfl rfl)
theorem dX2_commitWhatAgrees_76 : decode cX2_commitWhatAgrees 76 = .ok (.goto 4, 3) := dk_167 0 4 (dk_at dksX2_commitWhatAgrees_3 6 rfl rfl)
theorem dX2_commitWhatAgrees_79 : decode cX2_commitWhatAgrees 79 = .ok (.iconst 0, 1) := dk_3 (dk_at dksX2_commitWhatAgrees_3 9 rfl rfl)
theorem dX2_commitWhatAgrees_80 : decode cX2_commitWhatAgrees 80 = .ok (.ior, 1) := dk_128 (dk_at dksX2_commitWhatAgrees_3 10 rfl rfl)
theorem dX2_commitWhatAgrees_81 : decode cX2_commitWhatAgrees 81 = .ok (.istore_n 2, 1) := dk_61 (dk_at dksX2_commitWhatAgrees_3 11 rfl rfl)
theorem dX2_commitWhatAgrees_82 : decode cX2_commitWhatAgrees 82 = .ok (.iinc 3 1, 3) := dk_132 3 1 (dk_at dksX2_commitWhatAgrees_3 12 rfl rfl)
theorem dX2_commitWhatAgrees_85 : decode cX2_commitWhatAgrees 85 = .ok (.goto (-36), 3) := dk_167 255 220 (dk_at dksX2_commitWhatAgrees_3 15 rfl rfl)
theorem dX2_commitWhatAgrees_88 : decode cX2_commitWhatAgrees 88 = .ok (.aload_n 0, 1) := dk_42 (dk_at dksX2_commitWhatAgrees_3 18 rfl rfl)
theorem dX2_commitWhatAgrees_89 : decode cX2_commitWhatAgrees 89 = .ok (.invokevirtual 136, 3) := dk_182 0 136 (dk_at dksX2_commitWhatAgrees_3 19 rfl rfl)
theorem dX2_commitWhatAgrees_92 : decode cX2_commitWhatAgrees 92 = .ok (.iload_n 2, 1) := dk_28 (dk_at dksX2_commitWhatAgrees_3 22 rfl rfl)
theorem dX2_commitWhatAgrees_93 : decode cX2_commitWhatAgrees 93 = .ok (.invokevirtual 224, 3) := dk_182 0 224 (dk_at dksX2_commitWhatAgrees_4 0 rfl rfl)
theorem dX2_commitWhatAgrees_96 : decode cX2_commitWhatAgrees 96 = .ok (.ifCond .eq 15, 3) := dk_153 0 15 (dk_at dksX2_commitWhatAgrees_4 3 rfl rfl)
theorem dX2_commitWhatAgrees_99 : decode cX2_commitWhatAgrees 99 = .ok (.aload_n 0, 1) := dk_42 (dk_at dksX2_commitWhatAgrees_4 6 rfl rfl)
theorem dX2_commitWhatAgrees_100 : decode cX2_commitWhatAgrees 100 = .ok (.iload_n 1, 1) := dk_27 (dk_at dksX2_commitWhatAgrees_4 7 rfl rfl)
theorem dX2_commitWhatAgrees_101 : decode cX2_commitWhatAgrees 101 = .ok (.invokevirtual 343, 3) := dk_182 1 87 (dk_at dksX2_commitWhatAgrees_4 8 rfl rfl)
theorem dX2_commitWhatAgrees_104 : decode cX2_commitWhatAgrees 104 = .ok (.aload_n 0, 1) := dk_42 (dk_at dksX2_commitWhatAgrees_4 11 rfl rfl)
theorem dX2_commitWhatAgrees_105 : decode cX2_commitWhatAgrees 105 = .ok (.invokevirtual 366, 3) := dk_182 1 110 (dk_at dksX2_commitWhatAgrees_4 12 rfl rfl)
theorem dX2_commitWhatAgrees_108 : decode cX2_commitWhatAgrees 108 = .ok (.goto 9, 3) := dk_167 0 9 (dk_at dksX2_commitWhatAgrees_4 15 rfl rfl)
theorem dX2_commitWhatAgrees_111 : decode cX2_commitWhatAgrees 111 = .ok (.iinc 1 (-1), 3) := dk_132 1 255 (dk_at dksX2_commitWhatAgrees_4 18 rfl rfl)
theorem dX2_commitWhatAgrees_114 : decode cX2_commitWhatAgrees 114 = .ok (.goto (-109), 3) := dk_167 255 147 (dk_at dksX2_commitWhatAgrees_4 21 rfl rfl)
theorem dX2_commitWhatAgrees_117 : decode cX2_commitWhatAgrees 117 = .ok (.return_, 1) := dk_177 (dk_at dksX2_commitWhatAgrees_5 0 rfl rfl)
abbrev cX2_commitUpTo : ByteArray := prog_9_method_8_code
def yX2_commitUpTo : MethodName := ⟨RX2, "commitUpTo", "(I)V"⟩
def dkwX2_commitUpTo_3 : List UInt8 := [180, 0, 60, 184, 0, 125, 154, 0, 7, 42, 182, 0, 129, 167, 255, 173, 177]
abbrev dktX2_commitUpTo_3 : List UInt8 := dkwX2_commitUpTo_3 ++ []
def dkwX2_commitUpTo_2 : List UInt8 := [42, 180, 0, 19, 16, 108, 160, 0, 30, 44, 180, 0, 96, 16, 110, 160, 0, 21, 44, 180, 0, 104, 42]
abbrev dktX2_commitUpTo_2 : List UInt8 := dkwX2_commitUpTo_2 ++ dktX2_commitUpTo_3
def dkwX2_commitUpTo_1 : List UInt8 := [182, 0, 91, 77, 42, 180, 0, 3, 42, 180, 0, 114, 44, 182, 0, 117, 42, 180, 0, 40, 44, 182, 0, 121]
abbrev dktX2_commitUpTo_1 : List UInt8 := dkwX2_commitUpTo_1 ++ dktX2_commitUpTo_2
def dkwX2_commitUpTo_0 : List UInt8 := [42, 180, 0, 114, 27, 162, 0, 81, 42, 89, 180, 0, 114, 4, 96, 181, 0, 114, 42, 42, 180, 0, 114]
abbrev dktX2_commitUpTo_0 : List UInt8 := dkwX2_commitUpTo_0 ++ dktX2_commitUpTo_1
theorem dksX2_commitUpTo_0 : cX2_commitUpTo.data.toList.drop 0 = dktX2_commitUpTo_0 := by decide +kernel
theorem dksX2_commitUpTo_1 : cX2_commitUpTo.data.toList.drop 23 = dktX2_commitUpTo_1 := dk_seg dksX2_commitUpTo_0 23 rfl rfl
theorem dksX2_commitUpTo_2 : cX2_commitUpTo.data.toList.drop 47 = dktX2_commitUpTo_2 := dk_seg dksX2_commitUpTo_1 24 rfl rfl
theorem dksX2_commitUpTo_3 : cX2_commitUpTo.data.toList.drop 70 = dktX2_commitUpTo_3 := dk_seg dksX2_commitUpTo_2 23 rfl rfl
theorem dX2_commitUpTo_0 : decode cX2_commitUpTo 0 = .ok (.aload_n 0, 1) := dk_42 (dk_at dksX2_commitUpTo_0 0 rfl rfl)
theorem dX2_commitUpTo_1 : decode cX2_commitUpTo 1 = .ok (.getfield 114, 3) := dk_180 0 114 (dk_at dksX2_commitUpTo_0 1 rfl rfl)
theorem dX2_commitUpTo_4 : decode cX2_commitUpTo 4 = .ok (.iload_n 1, 1) := dk_27 (dk_at dksX2_commitUpTo_0 4 rfl rfl)
theorem dX2_commitUpTo_5 : decode cX2_commitUpTo 5 = .ok (.if_icmp .ge 81, 3) := dk_162 0 81 (dk_at dksX2_commitUpTo_0 5 rfl rfl)
theorem dX2_commitUpTo_8 : decode cX2_commitUpTo 8 = .ok (.aload_n 0, 1) := dk_42 (dk_at dksX2_commitUpTo_0 8 rfl rfl)
theorem dX2_commitUpTo_9 : decode cX2_commitUpTo 9 = .ok (.dup, 1) := dk_89 (dk_at dksX2_commitUpTo_0 9 rfl rfl)
theorem dX2_commitUpTo_10 : decode cX2_commitUpTo 10 = .ok (.getfield 114, 3) := dk_180 0 114 (dk_at dksX2_commitUpTo_0 10 rfl rfl)
theorem dX2_commitUpTo_13 : decode cX2_commitUpTo 13 = .ok (.iconst 1, 1) := dk_4 (dk_at dksX2_commitUpTo_0 13 rfl rfl)
theorem dX2_commitUpTo_14 : decode cX2_commitUpTo 14 = .ok (.iadd, 1) := dk_96 (dk_at dksX2_commitUpTo_0 14 rfl rfl)
theorem dX2_commitUpTo_15 : decode cX2_commitUpTo 15 = .ok (.putfield 114, 3) := dk_181 0 114 (dk_at dksX2_commitUpTo_0 15 rfl rfl)
theorem dX2_commitUpTo_18 : decode cX2_commitUpTo 18 = .ok (.aload_n 0, 1) := dk_42 (dk_at dksX2_commitUpTo_0 18 rfl rfl)
theorem dX2_commitUpTo_19 : decode cX2_commitUpTo 19 = .ok (.aload_n 0, 1) := dk_42 (dk_at dksX2_commitUpTo_0 19 rfl rfl)
theorem dX2_commitUpTo_20 : decode cX2_commitUpTo 20 = .ok (.getfield 114, 3) := dk_180 0 114 (dk_at dksX2_commitUpTo_0 20 rfl rfl)
theorem dX2_commitUpTo_23 : decode cX2_commitUpTo 23 = .ok (.invokevirtual 91, 3) := dk_182 0 91 (dk_at dksX2_commitUpTo_1 0 rfl rfl)
theorem dX2_commitUpTo_26 : decode cX2_commitUpTo 26 = .ok (.astore_n 2, 1) := dk_77 (dk_at dksX2_commitUpTo_1 3 rfl rfl)
theorem dX2_commitUpTo_27 : decode cX2_commitUpTo 27 = .ok (.aload_n 0, 1) := dk_42 (dk_at dksX2_commitUpTo_1 4 rfl rfl)
theorem dX2_commitUpTo_28 : decode cX2_commitUpTo 28 = .ok (.getfield 3, 3) := dk_180 0 3 (dk_at dksX2_commitUpTo_1 5 rfl rfl)
theorem dX2_commitUpTo_31 : decode cX2_commitUpTo 31 = .ok (.aload_n 0, 1) := dk_42 (dk_at dksX2_commitUpTo_1 8 rfl rfl)
theorem dX2_commitUpTo_32 : decode cX2_commitUpTo 32 = .ok (.getfield 114, 3) := dk_180 0 114 (dk_at dksX2_commitUpTo_1 9 rfl rfl)
theorem dX2_commitUpTo_35 : decode cX2_commitUpTo 35 = .ok (.aload_n 2, 1) := dk_44 (dk_at dksX2_commitUpTo_1 12 rfl rfl)
theorem dX2_commitUpTo_36 : decode cX2_commitUpTo 36 = .ok (.invokevirtual 117, 3) := dk_182 0 117 (dk_at dksX2_commitUpTo_1 13 rfl rfl)
theorem dX2_commitUpTo_39 : decode cX2_commitUpTo 39 = .ok (.aload_n 0, 1) := dk_42 (dk_at dksX2_commitUpTo_1 16 rfl rfl)
theorem dX2_commitUpTo_40 : decode cX2_commitUpTo 40 = .ok (.getfield 40, 3) := dk_180 0 40 (dk_at dksX2_commitUpTo_1 17 rfl rfl)
theorem dX2_commitUpTo_43 : decode cX2_commitUpTo 43 = .ok (.aload_n 2, 1) := dk_44 (dk_at dksX2_commitUpTo_1 20 rfl rfl)
theorem dX2_commitUpTo_44 : decode cX2_commitUpTo 44 = .ok (.invokevirtual 121, 3) := dk_182 0 121 (dk_at dksX2_commitUpTo_1 21 rfl rfl)
theorem dX2_commitUpTo_47 : decode cX2_commitUpTo 47 = .ok (.aload_n 0, 1) := dk_42 (dk_at dksX2_commitUpTo_2 0 rfl rfl)
theorem dX2_commitUpTo_48 : decode cX2_commitUpTo 48 = .ok (.getfield 19, 3) := dk_180 0 19 (dk_at dksX2_commitUpTo_2 1 rfl rfl)
theorem dX2_commitUpTo_51 : decode cX2_commitUpTo 51 = .ok (.bipush 108, 2) := dk_16 108 (dk_at dksX2_commitUpTo_2 4 rfl rfl)
theorem dX2_commitUpTo_53 : decode cX2_commitUpTo 53 = .ok (.if_icmp .ne 30, 3) := dk_160 0 30 (dk_at dksX2_commitUpTo_2 6 rfl rfl)
theorem dX2_commitUpTo_56 : decode cX2_commitUpTo 56 = .ok (.aload_n 2, 1) := dk_44 (dk_at dksX2_commitUpTo_2 9 rfl rfl)
theorem dX2_commitUpTo_57 : decode cX2_commitUpTo 57 = .ok (.getfield 96, 3) := dk_180 0 96 (dk_at dksX2_commitUpTo_2 10 rfl rfl)
theorem dX2_commitUpTo_60 : decode cX2_commitUpTo 60 = .ok (.bipush 110, 2) := dk_16 110 (dk_at dksX2_commitUpTo_2 13 rfl rfl)
theorem dX2_commitUpTo_62 : decode cX2_commitUpTo 62 = .ok (.if_icmp .ne 21, 3) := dk_160 0 21 (dk_at dksX2_commitUpTo_2 15 rfl rfl)
theorem dX2_commitUpTo_65 : decode cX2_commitUpTo 65 = .ok (.aload_n 2, 1) := dk_44 (dk_at dksX2_commitUpTo_2 18 rfl rfl)
theorem dX2_commitUpTo_66 : decode cX2_commitUpTo 66 = .ok (.getfield 104, 3) := dk_180 0 104 (dk_at dksX2_commitUpTo_2 19 rfl rfl)
theorem dX2_commitUpTo_69 : decode cX2_commitUpTo 69 = .ok (.aload_n 0, 1) := dk_42 (dk_at dksX2_commitUpTo_2 22 rfl rfl)
theorem dX2_commitUpTo_70 : decode cX2_commitUpTo 70 = .ok (.getfield 60, 3) := dk_180 0 60 (dk_at dksX2_commitUpTo_3 0 rfl rfl)
theorem dX2_commitUpTo_73 : decode cX2_commitUpTo 73 = .ok (.invokestatic 125, 3) := dk_184 0 125 (dk_at dksX2_commitUpTo_3 3 rfl rfl)
theorem dX2_commitUpTo_76 : decode cX2_commitUpTo 76 = .ok (.ifCond .ne 7, 3) := dk_154 0 7 (dk_at dksX2_commitUpTo_3 6 rfl rfl)
theorem dX2_commitUpTo_79 : decode cX2_commitUpTo 79 = .ok (.aload_n 0, 1) := dk_42 (dk_at dksX2_commitUpTo_3 9 rfl rfl)
theorem dX2_commitUpTo_80 : decode cX2_commitUpTo 80 = .ok (.invokevirtual 129, 3) := dk_182 0 129 (dk_at dksX2_commitUpTo_3 10 rfl rfl)
theorem dX2_commitUpTo_83 : decode cX2_commitUpTo 83 = .ok (.goto (-83), 3) := dk_167 255 173 (dk_at dksX2_commitUpTo_3 13 rfl rfl)
theorem dX2_commitUpTo_86 : decode cX2_commitUpTo 86 = .ok (.return_, 1) := dk_177 (dk_at dksX2_commitUpTo_3 16 rfl rfl)
abbrev cX2_finishChange : ByteArray := prog_9_method_9_code
def yX2_finishChange : MethodName := ⟨RX2, "finishChange", "()V"⟩
def dkwX2_finishChange_4 : List UInt8 := [3, 183, 0, 147, 182, 0, 150, 87, 177]
abbrev dktX2_finishChange_4 : List UInt8 := dkwX2_finishChange_4 ++ []
def dkwX2_finishChange_3 : List UInt8 := [163, 0, 32, 42, 180, 0, 33, 187, 0, 86, 89, 42, 180, 0, 143, 16, 110, 42, 182, 0, 136, 180, 0, 144]
abbrev dktX2_finishChange_3 : List UInt8 := dkwX2_finishChange_3 ++ dktX2_finishChange_4
def dkwX2_finishChange_2 : List UInt8 := [180, 0, 19, 16, 108, 160, 0, 50, 42, 182, 0, 136, 182, 0, 139, 153, 0, 40, 27, 42, 180, 0, 114]
abbrev dktX2_finishChange_2 : List UInt8 := dkwX2_finishChange_2 ++ dktX2_finishChange_3
def dkwX2_finishChange_1 : List UInt8 := [159, 0, 22, 42, 27, 182, 0, 91, 180, 0, 96, 16, 110, 159, 0, 9, 132, 1, 255, 167, 255, 219, 42]
abbrev dktX2_finishChange_1 : List UInt8 := dkwX2_finishChange_1 ++ dktX2_finishChange_2
def dkwX2_finishChange_0 : List UInt8 := [42, 182, 0, 79, 60, 42, 27, 182, 0, 132, 153, 0, 35, 42, 27, 182, 0, 91, 180, 0, 96, 16, 106]
abbrev dktX2_finishChange_0 : List UInt8 := dkwX2_finishChange_0 ++ dktX2_finishChange_1
theorem dksX2_finishChange_0 : cX2_finishChange.data.toList.drop 0 = dktX2_finishChange_0 := by decide +kernel
theorem dksX2_finishChange_1 : cX2_finishChange.data.toList.drop 23 = dktX2_finishChange_1 := dk_seg dksX2_finishChange_0 23 rfl rfl
theorem dksX2_finishChange_2 : cX2_finishChange.data.toList.drop 46 = dktX2_finishChange_2 := dk_seg dksX2_finishChange_1 23 rfl rfl
theorem dksX2_finishChange_3 : cX2_finishChange.data.toList.drop 69 = dktX2_finishChange_3 := dk_seg dksX2_finishChange_2 23 rfl rfl
theorem dksX2_finishChange_4 : cX2_finishChange.data.toList.drop 93 = dktX2_finishChange_4 := dk_seg dksX2_finishChange_3 24 rfl rfl
theorem dX2_finishChange_0 : decode cX2_finishChange 0 = .ok (.aload_n 0, 1) := dk_42 (dk_at dksX2_finishChange_0 0 rfl rfl)
theorem dX2_finishChange_1 : decode cX2_finishChange 1 = .ok (.invokevirtual 79, 3) := dk_182 0 79 (dk_at dksX2_finishChange_0 1 rfl rfl)
theorem dX2_finishChange_4 : decode cX2_finishChange 4 = .ok (.istore_n 1, 1) := dk_60 (dk_at dksX2_finishChange_0 4 rfl rfl)
theorem dX2_finishChange_5 : decode cX2_finishChange 5 = .ok (.aload_n 0, 1) := dk_42 (dk_at dksX2_finishChange_0 5 rfl rfl)
theorem dX2_finishChange_6 : decode cX2_finishChange 6 = .ok (.iload_n 1, 1) := dk_27 (dk_at dksX2_finishChange_0 6 rfl rfl)
theorem dX2_finishChange_7 : decode cX2_finishChange 7 = .ok (.invokevirtual 132, 3) := dk_182 0 132 (dk_at dksX2_finishChange_0 7 rfl rfl)
theorem dX2_finishChange_10 : decode cX2_finishChange 10 = .ok (.ifCond .eq 35, 3) := dk_153 0 35 (dk_at dksX2_finishChange_0 10 rfl rfl)
theorem dX2_finishChange_13 : decode cX2_finishChange 13 = .ok (.aload_n 0, 1) := dk_42 (dk_at dksX2_finishChange_0 13 rfl rfl)
theorem dX2_finishChange_14 : decode cX2_finishChange 14 = .ok (.iload_n 1, 1) := dk_27 (dk_at dksX2_finishChange_0 14 rfl rfl)
theorem dX2_finishChange_15 : decode cX2_finishChange 15 = .ok (.invokevirtual 91, 3) := dk_182 0 91 (dk_at dksX2_finishChange_0 15 rfl rfl)
theorem dX2_finishChange_18 : decode cX2_finishChange 18 = .ok (.getfield 96, 3) := dk_180 0 96 (dk_at dksX2_finishChange_0 18 rfl rfl)
theorem dX2_finishChange_21 : decode cX2_finishChange 21 = .ok (.bipush 106, 2) := dk_16 106 (dk_at dksX2_finishChange_0 21 rfl rfl)
theorem dX2_finishChange_23 : decode cX2_finishChange 23 = .ok (.if_icmp .eq 22, 3) := dk_159 0 22 (dk_at dksX2_finishChange_1 0 rfl rfl)
theorem dX2_finishChange_26 : decode cX2_finishChange 26 = .ok (.aload_n 0, 1) := dk_42 (dk_at dksX2_finishChange_1 3 rfl rfl)
theorem dX2_finishChange_27 : decode cX2_finishChange 27 = .ok (.iload_n 1, 1) := dk_27 (dk_at dksX2_finishChange_1 4 rfl rfl)
theorem dX2_finishChange_28 : decode cX2_finishChange 28 = .ok (.invokevirtual 91, 3) := dk_182 0 91 (dk_at dksX2_finishChange_1 5 rfl rfl)
theorem dX2_finishChange_31 : decode cX2_finishChange 31 = .ok (.getfield 96, 3) := dk_180 0 96 (dk_at dksX2_finishChange_1 8 rfl rfl)
theorem dX2_finishChange_34 : decode cX2_finishChange 34 = .ok (.bipush 110, 2) := dk_16 110 (dk_at dksX2_finishChange_1 11 rfl rfl)
theorem dX2_finishChange_36 : decode cX2_finishChange 36 = .ok (.if_icmp .eq 9, 3) := dk_159 0 9 (dk_at dksX2_finishChange_1 13 rfl rfl)
theorem dX2_finishChange_39 : decode cX2_finishChange 39 = .ok (.iinc 1 (-1), 3) := dk_132 1 255 (dk_at dksX2_finishChange_1 16 rfl rfl)
theorem dX2_finishChange_42 : decode cX2_finishChange 42 = .ok (.goto (-37), 3) := dk_167 255 219 (dk_at dksX2_finishChange_1 19 rfl rfl)
theorem dX2_finishChange_45 : decode cX2_finishChange 45 = .ok (.aload_n 0, 1) := dk_42 (dk_at dksX2_finishChange_1 22 rfl rfl)
theorem dX2_finishChange_46 : decode cX2_finishChange 46 = .ok (.getfield 19, 3) := dk_180 0 19 (dk_at dksX2_finishChange_2 0 rfl rfl)
theorem dX2_finishChange_49 : decode cX2_finishChange 49 = .ok (.bipush 108, 2) := dk_16 108 (dk_at dksX2_finishChange_2 3 rfl rfl)
theorem dX2_finishChange_51 : decode cX2_finishChange 51 = .ok (.if_icmp .ne 50, 3) := dk_160 0 50 (dk_at dksX2_finishChange_2 5 rfl rfl)
theorem dX2_finishChange_54 : decode cX2_finishChange 54 = .ok (.aload_n 0, 1) := dk_42 (dk_at dksX2_finishChange_2 8 rfl rfl)
theorem dX2_finishChange_55 : decode cX2_finishChange 55 = .ok (.invokevirtual 136, 3) := dk_182 0 136 (dk_at dksX2_finishChange_2 9 rfl rfl)
theorem dX2_finishChange_58 : decode cX2_finishChange 58 = .ok (.invokevirtual 139, 3) := dk_182 0 139 (dk_at dksX2_finishChange_2 12 rfl rfl)
theorem dX2_finishChange_61 : decode cX2_finishChange 61 = .ok (.ifCond .eq 40, 3) := dk_153 0 40 (dk_at dksX2_finishChange_2 15 rfl rfl)
theorem dX2_finishChange_64 : decode cX2_finishChange 64 = .ok (.iload_n 1, 1) := dk_27 (dk_at dksX2_finishChange_2 18 rfl rfl)
theorem dX2_finishChange_65 : decode cX2_finishChange 65 = .ok (.aload_n 0, 1) := dk_42 (dk_at dksX2_finishChange_2 19 rfl rfl)
theorem dX2_finishChange_66 : decode cX2_finishChange 66 = .ok (.getfield 114, 3) := dk_180 0 114 (dk_at dksX2_finishChange_2 20 rfl rfl)
theorem dX2_finishChange_69 : decode cX2_finishChange 69 = .ok (.if_icmp .gt 32, 3) := dk_163 0 32 (dk_at dksX2_finishChange_3 0 rfl rfl)
theorem dX2_finishChange_72 : decode cX2_finishChange 72 = .ok (.aload_n 0, 1) := dk_42 (dk_at dksX2_finishChange_3 3 rfl rfl)
theorem dX2_finishChange_73 : decode cX2_finishChange 73 = .ok (.getfield 33, 3) := dk_180 0 33 (dk_at dksX2_finishChange_3 4 rfl rfl)
theorem dX2_finishChange_76 : decode cX2_finishChange 76 = .ok (.new 86, 3) := dk_187 0 86 (dk_at dksX2_finishChange_3 7 rfl rfl)
theorem dX2_finishChange_79 : decode cX2_finishChange 79 = .ok (.dup, 1) := dk_89 (dk_at dksX2_finishChange_3 10 rfl rfl)
theorem dX2_finishChange_80 : decode cX2_finishChange 80 = .ok (.aload_n 0, 1) := dk_42 (dk_at dksX2_finishChange_3 11 rfl rfl)
theorem dX2_finishChange_81 : decode cX2_finishChange 81 = .ok (.getfield 143, 3) := dk_180 0 143 (dk_at dksX2_finishChange_3 12 rfl rfl)
theorem dX2_finishChange_84 : decode cX2_finishChange 84 = .ok (.bipush 110, 2) := dk_16 110 (dk_at dksX2_finishChange_3 15 rfl rfl)
theorem dX2_finishChange_86 : decode cX2_finishChange 86 = .ok (.aload_n 0, 1) := dk_42 (dk_at dksX2_finishChange_3 17 rfl rfl)
theorem dX2_finishChange_87 : decode cX2_finishChange 87 = .ok (.invokevirtual 136, 3) := dk_182 0 136 (dk_at dksX2_finishChange_3 18 rfl rfl)
theorem dX2_finishChange_90 : decode cX2_finishChange 90 = .ok (.getfield 144, 3) := dk_180 0 144 (dk_at dksX2_finishChange_3 21 rfl rfl)
theorem dX2_finishChange_93 : decode cX2_finishChange 93 = .ok (.iconst 0, 1) := dk_3 (dk_at dksX2_finishChange_4 0 rfl rfl)
theorem dX2_finishChange_94 : decode cX2_finishChange 94 = .ok (.invokespecial 147, 3) := dk_183 0 147 (dk_at dksX2_finishChange_4 1 rfl rfl)
theorem dX2_finishChange_97 : decode cX2_finishChange 97 = .ok (.invokevirtual 150, 3) := dk_182 0 150 (dk_at dksX2_finishChange_4 4 rfl rfl)
theorem dX2_finishChange_100 : decode cX2_finishChange 100 = .ok (.pop, 1) := dk_87 (dk_at dksX2_finishChange_4 7 rfl rfl)
theorem dX2_finishChange_101 : decode cX2_finishChange 101 = .ok (.return_, 1) := dk_177 (dk_at dksX2_finishChange_4 8 rfl rfl)
abbrev cX2_has : ByteArray := prog_9_method_3_code
def yX2_has : MethodName := ⟨RX2, "has", "(I)Z"⟩
def dkwX2_has_1 : List UInt8 := [172]
abbrev dktX2_has_1 : List UInt8 := dkwX2_has_1 ++ []
def dkwX2_has_0 : List UInt8 := [27, 42, 180, 0, 68, 180, 0, 72, 164, 0, 15, 27, 42, 182, 0, 79, 163, 0, 7, 4, 167, 0, 4, 3]
abbrev dktX2_has_0 : List UInt8 := dkwX2_has_0 ++ dktX2_has_1
theorem dksX2_has_0 : cX2_has.data.toList.drop 0 = dktX2_has_0 := by decide +kernel
theorem dksX2_has_1 : cX2_has.data.toList.drop 24 = dktX2_has_1 := dk_seg dksX2_has_0 24 rfl rfl
theorem dX2_has_0 : decode cX2_has 0 = .ok (.iload_n 1, 1) := dk_27 (dk_at dksX2_has_0 0 rfl rfl)
theorem dX2_has_1 : decode cX2_has 1 = .ok (.aload_n 0, 1) := dk_42 (dk_at dksX2_has_0 1 rfl rfl)
theorem dX2_has_2 : decode cX2_has 2 = .ok (.getfield 68, 3) := dk_180 0 68 (dk_at dksX2_has_0 2 rfl rfl)
theorem dX2_has_5 : decode cX2_has 5 = .ok (.getfield 72, 3) := dk_180 0 72 (dk_at dksX2_has_0 5 rfl rfl)
theorem dX2_has_8 : decode cX2_has 8 = .ok (.if_icmp .le 15, 3) := dk_164 0 15 (dk_at dksX2_has_0 8 rfl rfl)
theorem dX2_has_11 : decode cX2_has 11 = .ok (.iload_n 1, 1) := dk_27 (dk_at dksX2_has_0 11 rfl rfl)
theorem dX2_has_12 : decode cX2_has 12 = .ok (.aload_n 0, 1) := dk_42 (dk_at dksX2_has_0 12 rfl rfl)
theorem dX2_has_13 : decode cX2_has 13 = .ok (.invokevirtual 79, 3) := dk_182 0 79 (dk_at dksX2_has_0 13 rfl rfl)
theorem dX2_has_16 : decode cX2_has 16 = .ok (.if_icmp .gt 7, 3) := dk_163 0 7 (dk_at dksX2_has_0 16 rfl rfl)
theorem dX2_has_19 : decode cX2_has 19 = .ok (.iconst 1, 1) := dk_4 (dk_at dksX2_has_0 19 rfl rfl)
theorem dX2_has_20 : decode cX2_has 20 = .ok (.goto 4, 3) := dk_167 0 4 (dk_at dksX2_has_0 20 rfl rfl)
theorem dX2_has_23 : decode cX2_has 23 = .ok (.iconst 0, 1) := dk_3 (dk_at dksX2_has_0 23 rfl rfl)
theorem dX2_has_24 : decode cX2_has 24 = .ok (.ireturn, 1) := dk_172 (dk_at dksX2_has_1 0 rfl rfl)
abbrev cX2_crash : ByteArray := prog_9_method_35_code
def yX2_crash : MethodName := ⟨RX2, "crash", "()I"⟩
def dkwX2_crash_3 : List UInt8 := [181, 0, 196, 27, 172]
abbrev dktX2_crash_3 : List UInt8 := dkwX2_crash_3 ++ []
def dkwX2_crash_2 : List UInt8 := [182, 1, 95, 181, 0, 40, 42, 3, 181, 0, 180, 42, 2, 181, 0, 44, 42, 3, 181, 0, 183, 42, 3]
abbrev dktX2_crash_2 : List UInt8 := dkwX2_crash_2 ++ dktX2_crash_3
def dkwX2_crash_1 : List UInt8 := [42, 3, 181, 0, 15, 42, 42, 180, 0, 68, 180, 0, 72, 181, 0, 114, 42, 42, 180, 0, 68, 180, 1, 94]
abbrev dktX2_crash_1 : List UInt8 := dkwX2_crash_1 ++ dktX2_crash_2
def dkwX2_crash_0 : List UInt8 := [42, 182, 0, 79, 42, 180, 1, 59, 100, 60, 42, 42, 180, 1, 59, 4, 96, 182, 1, 80, 42, 182, 0, 129]
abbrev dktX2_crash_0 : List UInt8 := dkwX2_crash_0 ++ dktX2_crash_1
theorem dksX2_crash_0 : cX2_crash.data.toList.drop 0 = dktX2_crash_0 := by decide +kernel
theorem dksX2_crash_1 : cX2_crash.data.toList.drop 24 = dktX2_crash_1 := dk_seg dksX2_crash_0 24 rfl rfl
theorem dksX2_crash_2 : cX2_crash.data.toList.drop 48 = dktX2_crash_2 := dk_seg dksX2_crash_1 24 rfl rfl
theorem dksX2_crash_3 : cX2_crash.data.toList.drop 71 = dktX2_crash_3 := dk_seg dksX2_crash_2 23 rfl rfl
theorem dX2_crash_0 : decode cX2_crash 0 = .ok (.aload_n 0, 1) := dk_42 (dk_at dksX2_crash_0 0 rfl rfl)
theorem dX2_crash_1 : decode cX2_crash 1 = .ok (.invokevirtual 79, 3) := dk_182 0 79 (dk_at dksX2_crash_0 1 rfl rfl)
theorem dX2_crash_4 : decode cX2_crash 4 = .ok (.aload_n 0, 1) := dk_42 (dk_at dksX2_crash_0 4 rfl rfl)
theorem dX2_crash_5 : decode cX2_crash 5 = .ok (.getfield 315, 3) := dk_180 1 59 (dk_at dksX2_crash_0 5 rfl rfl)
theorem dX2_crash_8 : decode cX2_crash 8 = .ok (.isub, 1) := dk_100 (dk_at dksX2_crash_0 8 rfl rfl)
theorem dX2_crash_9 : decode cX2_crash 9 = .ok (.istore_n 1, 1) := dk_60 (dk_at dksX2_crash_0 9 rfl rfl)
theorem dX2_crash_10 : decode cX2_crash 10 = .ok (.aload_n 0, 1) := dk_42 (dk_at dksX2_crash_0 10 rfl rfl)
theorem dX2_crash_11 : decode cX2_crash 11 = .ok (.aload_n 0, 1) := dk_42 (dk_at dksX2_crash_0 11 rfl rfl)
theorem dX2_crash_12 : decode cX2_crash 12 = .ok (.getfield 315, 3) := dk_180 1 59 (dk_at dksX2_crash_0 12 rfl rfl)
theorem dX2_crash_15 : decode cX2_crash 15 = .ok (.iconst 1, 1) := dk_4 (dk_at dksX2_crash_0 15 rfl rfl)
theorem dX2_crash_16 : decode cX2_crash 16 = .ok (.iadd, 1) := dk_96 (dk_at dksX2_crash_0 16 rfl rfl)
theorem dX2_crash_17 : decode cX2_crash 17 = .ok (.invokevirtual 336, 3) := dk_182 1 80 (dk_at dksX2_crash_0 17 rfl rfl)
theorem dX2_crash_20 : decode cX2_crash 20 = .ok (.aload_n 0, 1) := dk_42 (dk_at dksX2_crash_0 20 rfl rfl)
theorem dX2_crash_21 : decode cX2_crash 21 = .ok (.invokevirtual 129, 3) := dk_182 0 129 (dk_at dksX2_crash_0 21 rfl rfl)
theorem dX2_crash_24 : decode cX2_crash 24 = .ok (.aload_n 0, 1) := dk_42 (dk_at dksX2_crash_1 0 rfl rfl)
theorem dX2_crash_25 : decode cX2_crash 25 = .ok (.iconst 0, 1) := dk_3 (dk_at dksX2_crash_1 1 rfl rfl)
theorem dX2_crash_26 : decode cX2_crash 26 = .ok (.putfield 15, 3) := dk_181 0 15 (dk_at dksX2_crash_1 2 rfl rfl)
theorem dX2_crash_29 : decode cX2_crash 29 = .ok (.aload_n 0, 1) := dk_42 (dk_at dksX2_crash_1 5 rfl rfl)
theorem dX2_crash_30 : decode cX2_crash 30 = .ok (.aload_n 0, 1) := dk_42 (dk_at dksX2_crash_1 6 rfl rfl)
theorem dX2_crash_31 : decode cX2_crash 31 = .ok (.getfield 68, 3) := dk_180 0 68 (dk_at dksX2_crash_1 7 rfl rfl)
theorem dX2_crash_34 : decode cX2_crash 34 = .ok (.getfield 72, 3) := dk_180 0 72 (dk_at dksX2_crash_1 10 rfl rfl)
theorem dX2_crash_37 : decode cX2_crash 37 = .ok (.putfield 114, 3) := dk_181 0 114 (dk_at dksX2_crash_1 13 rfl rfl)
theorem dX2_crash_40 : decode cX2_crash 40 = .ok (.aload_n 0, 1) := dk_42 (dk_at dksX2_crash_1 16 rfl rfl)
theorem dX2_crash_41 : decode cX2_crash 41 = .ok (.aload_n 0, 1) := dk_42 (dk_at dksX2_crash_1 17 rfl rfl)
theorem dX2_crash_42 : decode cX2_crash 42 = .ok (.getfield 68, 3) := dk_180 0 68 (dk_at dksX2_crash_1 18 rfl rfl)
theorem dX2_crash_45 : decode cX2_crash 45 = .ok (.getfield 350, 3) := dk_180 1 94 (dk_at dksX2_crash_1 21 rfl rfl)
theorem dX2_crash_48 : decode cX2_crash 48 = .ok (.invokevirtual 351, 3) := dk_182 1 95 (dk_at dksX2_crash_2 0 rfl rfl)
theorem dX2_crash_51 : decode cX2_crash 51 = .ok (.putfield 40, 3) := dk_181 0 40 (dk_at dksX2_crash_2 3 rfl rfl)
theorem dX2_crash_54 : decode cX2_crash 54 = .ok (.aload_n 0, 1) := dk_42 (dk_at dksX2_crash_2 6 rfl rfl)
theorem dX2_crash_55 : decode cX2_crash 55 = .ok (.iconst 0, 1) := dk_3 (dk_at dksX2_crash_2 7 rfl rfl)
theorem dX2_crash_56 : decode cX2_crash 56 = .ok (.putfield 180, 3) := dk_181 0 180 (dk_at dksX2_crash_2 8 rfl rfl)
theorem dX2_crash_59 : decode cX2_crash 59 = .ok (.aload_n 0, 1) := dk_42 (dk_at dksX2_crash_2 11 rfl rfl)
theorem dX2_crash_60 : decode cX2_crash 60 = .ok (.iconst (-1), 1) := dk_2 (dk_at dksX2_crash_2 12 rfl rfl)
theorem dX2_crash_61 : decode cX2_crash 61 = .ok (.putfield 44, 3) := dk_181 0 44 (dk_at dksX2_crash_2 13 rfl rfl)
theorem dX2_crash_64 : decode cX2_crash 64 = .ok (.aload_n 0, 1) := dk_42 (dk_at dksX2_crash_2 16 rfl rfl)
theorem dX2_crash_65 : decode cX2_crash 65 = .ok (.iconst 0, 1) := dk_3 (dk_at dksX2_crash_2 17 rfl rfl)
theorem dX2_crash_66 : decode cX2_crash 66 = .ok (.putfield 183, 3) := dk_181 0 183 (dk_at dksX2_crash_2 18 rfl rfl)
theorem dX2_crash_69 : decode cX2_crash 69 = .ok (.aload_n 0, 1) := dk_42 (dk_at dksX2_crash_2 21 rfl rfl)
theorem dX2_crash_70 : decode cX2_crash 70 = .ok (.iconst 0, 1) := dk_3 (dk_at dksX2_crash_2 22 rfl rfl)
theorem dX2_crash_71 : decode cX2_crash 71 = .ok (.putfield 196, 3) := dk_181 0 196 (dk_at dksX2_crash_3 0 rfl rfl)
theorem dX2_crash_74 : decode cX2_crash 74 = .ok (.iload_n 1, 1) := dk_27 (dk_at dksX2_crash_3 3 rfl rfl)
theorem dX2_crash_75 : decode cX2_crash 75 = .ok (.ireturn, 1) := dk_172 (dk_at dksX2_crash_3 4 rfl rfl)
abbrev cX2_cut : ByteArray := prog_9_method_25_code
def yX2_cut : MethodName := ⟨RX2, "cut", "(I)V"⟩
def dkwX2_cut_1 : List UInt8 := [87, 167, 255, 231, 42, 42, 180, 1, 59, 42, 182, 0, 79, 184, 1, 62, 181, 1, 59, 177]
abbrev dktX2_cut_1 : List UInt8 := dkwX2_cut_1 ++ []
def dkwX2_cut_0 : List UInt8 := [42, 182, 0, 79, 27, 161, 0, 23, 42, 180, 0, 33, 42, 180, 0, 33, 182, 0, 75, 4, 100, 182, 1, 90]
abbrev dktX2_cut_0 : List UInt8 := dkwX2_cut_0 ++ dktX2_cut_1
theorem dksX2_cut_0 : cX2_cut.data.toList.drop 0 = dktX2_cut_0 := by decide +kernel
theorem dksX2_cut_1 : cX2_cut.data.toList.drop 24 = dktX2_cut_1 := dk_seg dksX2_cut_0 24 rfl rfl
theorem dX2_cut_0 : decode cX2_cut 0 = .ok (.aload_n 0, 1) := dk_42 (dk_at dksX2_cut_0 0 rfl rfl)
theorem dX2_cut_1 : decode cX2_cut 1 = .ok (.invokevirtual 79, 3) := dk_182 0 79 (dk_at dksX2_cut_0 1 rfl rfl)
theorem dX2_cut_4 : decode cX2_cut 4 = .ok (.iload_n 1, 1) := dk_27 (dk_at dksX2_cut_0 4 rfl rfl)
theorem dX2_cut_5 : decode cX2_cut 5 = .ok (.if_icmp .lt 23, 3) := dk_161 0 23 (dk_at dksX2_cut_0 5 rfl rfl)
theorem dX2_cut_8 : decode cX2_cut 8 = .ok (.aload_n 0, 1) := dk_42 (dk_at dksX2_cut_0 8 rfl rfl)
theorem dX2_cut_9 : decode cX2_cut 9 = .ok (.getfield 33, 3) := dk_180 0 33 (dk_at dksX2_cut_0 9 rfl rfl)
theorem dX2_cut_12 : decode cX2_cut 12 = .ok (.aload_n 0, 1) := dk_42 (dk_at dksX2_cut_0 12 rfl rfl)
theorem dX2_cut_13 : decode cX2_cut 13 = .ok (.getfield 33, 3) := dk_180 0 33 (dk_at dksX2_cut_0 13 rfl rfl)
theorem dX2_cut_16 : decode cX2_cut 16 = .ok (.invokevirtual 75, 3) := dk_182 0 75 (dk_at dksX2_cut_0 16 rfl rfl)
theorem dX2_cut_19 : decode cX2_cut 19 = .ok (.iconst 1, 1) := dk_4 (dk_at dksX2_cut_0 19 rfl rfl)
theorem dX2_cut_20 : decode cX2_cut 20 = .ok (.isub, 1) := dk_100 (dk_at dksX2_cut_0 20 rfl rfl)
theorem dX2_cut_21 : decode cX2_cut 21 = .ok (.invokevirtual 346, 3) := dk_182 1 90 (dk_at dksX2_cut_0 21 rfl rfl)
theorem dX2_cut_24 : decode cX2_cut 24 = .ok (.pop, 1) := dk_87 (dk_at dksX2_cut_1 0 rfl rfl)
theorem dX2_cut_25 : decode cX2_cut 25 = .ok (.goto (-25), 3) := dk_167 255 231 (dk_at dksX2_cut_1 1 rfl rfl)
theorem dX2_cut_28 : decode cX2_cut 28 = .ok (.aload_n 0, 1) := dk_42 (dk_at dksX2_cut_1 4 rfl rfl)
theorem dX2_cut_29 : decode cX2_cut 29 = .ok (.aload_n 0, 1) := dk_42 (dk_at dksX2_cut_1 5 rfl rfl)
theorem dX2_cut_30 : decode cX2_cut 30 = .ok (.getfield 315, 3) := dk_180 1 59 (dk_at dksX2_cut_1 6 rfl rfl)
theorem dX2_cut_33 : decode cX2_cut 33 = .ok (.aload_n 0, 1) := dk_42 (dk_at dksX2_cut_1 9 rfl rfl)
theorem dX2_cut_34 : decode cX2_cut 34 = .ok (.invokevirtual 79, 3) := dk_182 0 79 (dk_at dksX2_cut_1 10 rfl rfl)
theorem dX2_cut_37 : decode cX2_cut 37 = .ok (.invokestatic 318, 3) := dk_184 1 62 (dk_at dksX2_cut_1 13 rfl rfl)
theorem dX2_cut_40 : decode cX2_cut 40 = .ok (.putfield 315, 3) := dk_181 1 59 (dk_at dksX2_cut_1 16 rfl rfl)
theorem dX2_cut_43 : decode cX2_cut 43 = .ok (.return_, 1) := dk_177 (dk_at dksX2_cut_1 19 rfl rfl)
abbrev cX2_start : ByteArray := prog_9_method_36_code
def yX2_start : MethodName := ⟨RX2, "start", "()I"⟩
def dkwX2_start_3 : List UInt8 := [181, 0, 199, 42, 42, 180, 0, 186, 181, 0, 27, 42, 180, 0, 186, 172]
abbrev dktX2_start_3 : List UInt8 := dkwX2_start_3 ++ []
def dkwX2_start_2 : List UInt8 := [184, 1, 83, 167, 0, 7, 42, 180, 0, 186, 181, 0, 186, 132, 3, 1, 167, 255, 212, 42, 42, 180, 0, 186]
abbrev dktX2_start_2 : List UInt8 := dkwX2_start_2 ++ dktX2_start_3
def dkwX2_start_1 : List UInt8 := [29, 50, 58, 4, 42, 25, 4, 180, 0, 15, 153, 0, 18, 42, 180, 0, 186, 25, 4, 180, 0, 186]
abbrev dktX2_start_1 : List UInt8 := dkwX2_start_1 ++ dktX2_start_2
def dkwX2_start_0 : List UInt8 := [42, 4, 181, 0, 15, 42, 180, 0, 3, 180, 1, 138, 76, 43, 190, 61, 3, 62, 29, 28, 162, 0, 45, 43]
abbrev dktX2_start_0 : List UInt8 := dkwX2_start_0 ++ dktX2_start_1
theorem dksX2_start_0 : cX2_start.data.toList.drop 0 = dktX2_start_0 := by decide +kernel
theorem dksX2_start_1 : cX2_start.data.toList.drop 24 = dktX2_start_1 := dk_seg dksX2_start_0 24 rfl rfl
theorem dksX2_start_2 : cX2_start.data.toList.drop 46 = dktX2_start_2 := dk_seg dksX2_start_1 22 rfl rfl
theorem dksX2_start_3 : cX2_start.data.toList.drop 70 = dktX2_start_3 := dk_seg dksX2_start_2 24 rfl rfl
theorem dX2_start_0 : decode cX2_start 0 = .ok (.aload_n 0, 1) := dk_42 (dk_at dksX2_start_0 0 rfl rfl)
theorem dX2_start_1 : decode cX2_start 1 = .ok (.iconst 1, 1) := dk_4 (dk_at dksX2_start_0 1 rfl rfl)
theorem dX2_start_2 : decode cX2_start 2 = .ok (.putfield 15, 3) := dk_181 0 15 (dk_at dksX2_start_0 2 rfl rfl)
theorem dX2_start_5 : decode cX2_start 5 = .ok (.aload_n 0, 1) := dk_42 (dk_at dksX2_start_0 5 rfl rfl)
theorem dX2_start_6 : decode cX2_start 6 = .ok (.getfield 3, 3) := dk_180 0 3 (dk_at dksX2_start_0 6 rfl rfl)
theorem dX2_start_9 : decode cX2_start 9 = .ok (.getfield 394, 3) := dk_180 1 138 (dk_at dksX2_start_0 9 rfl rfl)
theorem dX2_start_12 : decode cX2_start 12 = .ok (.astore_n 1, 1) := dk_76 (dk_at dksX2_start_0 12 rfl rfl)
theorem dX2_start_13 : decode cX2_start 13 = .ok (.aload_n 1, 1) := dk_43 (dk_at dksX2_start_0 13 rfl rfl)
theorem dX2_start_14 : decode cX2_start 14 = .ok (.arraylength, 1) := dk_190 (dk_at dksX2_start_0 14 rfl rfl)
theorem dX2_start_15 : decode cX2_start 15 = .ok (.istore_n 2, 1) := dk_61 (dk_at dksX2_start_0 15 rfl rfl)
theorem dX2_start_16 : decode cX2_start 16 = .ok (.iconst 0, 1) := dk_3 (dk_at dksX2_start_0 16 rfl rfl)
theorem dX2_start_17 : decode cX2_start 17 = .ok (.istore_n 3, 1) := dk_62 (dk_at dksX2_start_0 17 rfl rfl)
theorem dX2_start_18 : decode cX2_start 18 = .ok (.iload_n 3, 1) := dk_29 (dk_at dksX2_start_0 18 rfl rfl)
theorem dX2_start_19 : decode cX2_start 19 = .ok (.iload_n 2, 1) := dk_28 (dk_at dksX2_start_0 19 rfl rfl)
theorem dX2_start_20 : decode cX2_start 20 = .ok (.if_icmp .ge 45, 3) := dk_162 0 45 (dk_at dksX2_start_0 20 rfl rfl)
theorem dX2_start_23 : decode cX2_start 23 = .ok (.aload_n 1, 1) := dk_43 (dk_at dksX2_start_0 23 rfl rfl)
theorem dX2_start_24 : decode cX2_start 24 = .ok (.iload_n 3, 1) := dk_29 (dk_at dksX2_start_1 0 rfl rfl)
theorem dX2_start_25 : decode cX2_start 25 = .ok (.aaload, 1) := dk_50 (dk_at dksX2_start_1 1 rfl rfl)
theorem dX2_start_26 : decode cX2_start 26 = .ok (.astore 4, 2) := dk_58 4 (dk_at dksX2_start_1 2 rfl rfl)
theorem dX2_start_28 : decode cX2_start 28 = .ok (.aload_n 0, 1) := dk_42 (dk_at dksX2_start_1 4 rfl rfl)
theorem dX2_start_29 : decode cX2_start 29 = .ok (.aload 4, 2) := dk_25 4 (dk_at dksX2_start_1 5 rfl rfl)
theorem dX2_start_31 : decode cX2_start 31 = .ok (.getfield 15, 3) := dk_180 0 15 (dk_at dksX2_start_1 7 rfl rfl)
theorem dX2_start_34 : decode cX2_start 34 = .ok (.ifCond .eq 18, 3) := dk_153 0 18 (dk_at dksX2_start_1 10 rfl rfl)
theorem dX2_start_37 : decode cX2_start 37 = .ok (.aload_n 0, 1) := dk_42 (dk_at dksX2_start_1 13 rfl rfl)
theorem dX2_start_38 : decode cX2_start 38 = .ok (.getfield 186, 3) := dk_180 0 186 (dk_at dksX2_start_1 14 rfl rfl)
theorem dX2_start_41 : decode cX2_start 41 = .ok (.aload 4, 2) := dk_25 4 (dk_at dksX2_start_1 17 rfl rfl)
theorem dX2_start_43 : decode cX2_start 43 = .ok (.getfield 186, 3) := dk_180 0 186 (dk_at dksX2_start_1 19 rfl rfl)
theorem dX2_start_46 : decode cX2_start 46 = .ok (.invokestatic 339, 3) := dk_184 1 83 (dk_at dksX2_start_2 0 rfl rfl)
theorem dX2_start_49 : decode cX2_start 49 = .ok (.goto 7, 3) := dk_167 0 7 (dk_at dksX2_start_2 3 rfl rfl)
theorem dX2_start_52 : decode cX2_start 52 = .ok (.aload_n 0, 1) := dk_42 (dk_at dksX2_start_2 6 rfl rfl)
theorem dX2_start_53 : decode cX2_start 53 = .ok (.getfield 186, 3) := dk_180 0 186 (dk_at dksX2_start_2 7 rfl rfl)
theorem dX2_start_56 : decode cX2_start 56 = .ok (.putfield 186, 3) := dk_181 0 186 (dk_at dksX2_start_2 10 rfl rfl)
theorem dX2_start_59 : decode cX2_start 59 = .ok (.iinc 3 1, 3) := dk_132 3 1 (dk_at dksX2_start_2 13 rfl rfl)
theorem dX2_start_62 : decode cX2_start 62 = .ok (.goto (-44), 3) := dk_167 255 212 (dk_at dksX2_start_2 16 rfl rfl)
theorem dX2_start_65 : decode cX2_start 65 = .ok (.aload_n 0, 1) := dk_42 (dk_at dksX2_start_2 19 rfl rfl)
theorem dX2_start_66 : decode cX2_start 66 = .ok (.aload_n 0, 1) := dk_42 (dk_at dksX2_start_2 20 rfl rfl)
theorem dX2_start_67 : decode cX2_start 67 = .ok (.getfield 186, 3) := dk_180 0 186 (dk_at dksX2_start_2 21 rfl rfl)
theorem dX2_start_70 : decode cX2_start 70 = .ok (.putfield 199, 3) := dk_181 0 199 (dk_at dksX2_start_3 0 rfl rfl)
theorem dX2_start_73 : decode cX2_start 73 = .ok (.aload_n 0, 1) := dk_42 (dk_at dksX2_start_3 3 rfl rfl)
theorem dX2_start_74 : decode cX2_start 74 = .ok (.aload_n 0, 1) := dk_42 (dk_at dksX2_start_3 4 rfl rfl)
theorem dX2_start_75 : decode cX2_start 75 = .ok (.getfield 186, 3) := dk_180 0 186 (dk_at dksX2_start_3 5 rfl rfl)
theorem dX2_start_78 : decode cX2_start 78 = .ok (.putfield 27, 3) := dk_181 0 27 (dk_at dksX2_start_3 8 rfl rfl)
theorem dX2_start_81 : decode cX2_start 81 = .ok (.aload_n 0, 1) := dk_42 (dk_at dksX2_start_3 11 rfl rfl)
theorem dX2_start_82 : decode cX2_start 82 = .ok (.getfield 186, 3) := dk_180 0 186 (dk_at dksX2_start_3 12 rfl rfl)
theorem dX2_start_85 : decode cX2_start 85 = .ok (.ireturn, 1) := dk_172 (dk_at dksX2_start_3 15 rfl rfl)
abbrev cX2_compact : ByteArray := prog_9_method_37_code
def yX2_compact : MethodName := ⟨RX2, "compact", "()I"⟩
def dkwX2_compact_5 : List UInt8 := [172]
abbrev dktX2_compact_5 : List UInt8 := dkwX2_compact_5 ++ []
def dkwX2_compact_4 : List UInt8 := [181, 0, 33, 42, 44, 181, 0, 68, 42, 42, 180, 1, 59, 44, 180, 0, 72, 184, 1, 83, 181, 1, 59, 27]
abbrev dktX2_compact_4 : List UInt8 := dkwX2_compact_4 ++ dktX2_compact_5
def dkwX2_compact_3 : List UInt8 := [163, 0, 20, 45, 42, 21, 4, 182, 0, 91, 182, 0, 150, 87, 132, 4, 1, 167, 255, 233, 42, 45]
abbrev dktX2_compact_3 : List UInt8 := dkwX2_compact_3 ++ dktX2_compact_4
def dkwX2_compact_2 : List UInt8 := [77, 187, 0, 30, 89, 183, 0, 32, 78, 42, 180, 0, 114, 4, 96, 54, 4, 21, 4, 42, 182, 0, 79]
abbrev dktX2_compact_2 : List UInt8 := dkwX2_compact_2 ++ dktX2_compact_3
def dkwX2_compact_1 : List UInt8 := [180, 0, 114, 182, 0, 210, 42, 42, 180, 0, 114, 182, 1, 142, 42, 180, 0, 40, 182, 1, 95, 183, 0, 65]
abbrev dktX2_compact_1 : List UInt8 := dkwX2_compact_1 ++ dktX2_compact_2
def dkwX2_compact_0 : List UInt8 := [42, 180, 0, 114, 42, 180, 0, 68, 180, 0, 72, 100, 60, 187, 0, 63, 89, 42, 180, 0, 114, 42, 42]
abbrev dktX2_compact_0 : List UInt8 := dkwX2_compact_0 ++ dktX2_compact_1
theorem dksX2_compact_0 : cX2_compact.data.toList.drop 0 = dktX2_compact_0 := by decide +kernel
theorem dksX2_compact_1 : cX2_compact.data.toList.drop 23 = dktX2_compact_1 := dk_seg dksX2_compact_0 23 rfl rfl
theorem dksX2_compact_2 : cX2_compact.data.toList.drop 47 = dktX2_compact_2 := dk_seg dksX2_compact_1 24 rfl rfl
theorem dksX2_compact_3 : cX2_compact.data.toList.drop 70 = dktX2_compact_3 := dk_seg dksX2_compact_2 23 rfl rfl
theorem dksX2_compact_4 : cX2_compact.data.toList.drop 92 = dktX2_compact_4 := dk_seg dksX2_compact_3 22 rfl rfl
theorem dksX2_compact_5 : cX2_compact.data.toList.drop 116 = dktX2_compact_5 := dk_seg dksX2_compact_4 24 rfl rfl
theorem dX2_compact_0 : decode cX2_compact 0 = .ok (.aload_n 0, 1) := dk_42 (dk_at dksX2_compact_0 0 rfl rfl)
theorem dX2_compact_1 : decode cX2_compact 1 = .ok (.getfield 114, 3) := dk_180 0 114 (dk_at dksX2_compact_0 1 rfl rfl)
theorem dX2_compact_4 : decode cX2_compact 4 = .ok (.aload_n 0, 1) := dk_42 (dk_at dksX2_compact_0 4 rfl rfl)
theorem dX2_compact_5 : decode cX2_compact 5 = .ok (.getfield 68, 3) := dk_180 0 68 (dk_at dksX2_compact_0 5 rfl rfl)
theorem dX2_compact_8 : decode cX2_compact 8 = .ok (.getfield 72, 3) := dk_180 0 72 (dk_at dksX2_compact_0 8 rfl rfl)
theorem dX2_compact_11 : decode cX2_compact 11 = .ok (.isub, 1) := dk_100 (dk_at dksX2_compact_0 11 rfl rfl)
theorem dX2_compact_12 : decode cX2_compact 12 = .ok (.istore_n 1, 1) := dk_60 (dk_at dksX2_compact_0 12 rfl rfl)
theorem dX2_compact_13 : decode cX2_compact 13 = .ok (.new 63, 3) := dk_187 0 63 (dk_at dksX2_compact_0 13 rfl rfl)
theorem dX2_compact_16 : decode cX2_compact 16 = .ok (.dup, 1) := dk_89 (dk_at dksX2_compact_0 16 rfl rfl)
theorem dX2_compact_17 : decode cX2_compact 17 = .ok (.aload_n 0, 1) := dk_42 (dk_at dksX2_compact_0 17 rfl rfl)
theorem dX2_compact_18 : decode cX2_compact 18 = .ok (.getfield 114, 3) := dk_180 0 114 (dk_at dksX2_compact_0 18 rfl rfl)
theorem dX2_compact_21 : decode cX2_compact 21 = .ok (.aload_n 0, 1) := dk_42 (dk_at dksX2_compact_0 21 rfl rfl)
theorem dX2_compact_22 : decode cX2_compact 22 = .ok (.aload_n 0, 1) := dk_42 (dk_at dksX2_compact_0 22 rfl rfl)
theorem dX2_compact_23 : decode cX2_compact 23 = .ok (.getfield 114, 3) := dk_180 0 114 (dk_at dksX2_compact_1 0 rfl rfl)
theorem dX2_compact_26 : decode cX2_compact 26 = .ok (.invokevirtual 210, 3) := dk_182 0 210 (dk_at dksX2_compact_1 3 rfl rfl)
theorem dX2_compact_29 : decode cX2_compact 29 = .ok (.aload_n 0, 1) := dk_42 (dk_at dksX2_compact_1 6 rfl rfl)
theorem dX2_compact_30 : decode cX2_compact 30 = .ok (.aload_n 0, 1) := dk_42 (dk_at dksX2_compact_1 7 rfl rfl)
theorem dX2_compact_31 : decode cX2_compact 31 = .ok (.getfield 114, 3) := dk_180 0 114 (dk_at dksX2_compact_1 8 rfl rfl)
theorem dX2_compact_34 : decode cX2_compact 34 = .ok (.invokevirtual 398, 3) := dk_182 1 142 (dk_at dksX2_compact_1 11 rfl rfl)
theorem dX2_compact_37 : decode cX2_compact 37 = .ok (.aload_n 0, 1) := dk_42 (dk_at dksX2_compact_1 14 rfl rfl)
theorem dX2_compact_38 : decode cX2_compact 38 = .ok (.getfield 40, 3) := dk_180 0 40 (dk_at dksX2_compact_1 15 rfl rfl)
theorem dX2_compact_41 : decode cX2_compact 41 = .ok (.invokevirtual 351, 3) := dk_182 1 95 (dk_at dksX2_compact_1 18 rfl rfl)
theorem dX2_compact_44 : decode cX2_compact 44 = .ok (.invokespecial 65, 3) := dk_183 0 65 (dk_at dksX2_compact_1 21 rfl rfl)
theorem dX2_compact_47 : decode cX2_compact 47 = .ok (.astore_n 2, 1) := dk_77 (dk_at dksX2_compact_2 0 rfl rfl)
theorem dX2_compact_48 : decode cX2_compact 48 = .ok (.new 30, 3) := dk_187 0 30 (dk_at dksX2_compact_2 1 rfl rfl)
theorem dX2_compact_51 : decode cX2_compact 51 = .ok (.dup, 1) := dk_89 (dk_at dksX2_compact_2 4 rfl rfl)
theorem dX2_compact_52 : decode cX2_compact 52 = .ok (.invokespecial 32, 3) := dk_183 0 32 (dk_at dksX2_compact_2 5 rfl rfl)
theorem dX2_compact_55 : decode cX2_compact 55 = .ok (.astore_n 3, 1) := dk_78 (dk_at dksX2_compact_2 8 rfl rfl)
theorem dX2_compact_56 : decode cX2_compact 56 = .ok (.aload_n 0, 1) := dk_42 (dk_at dksX2_compact_2 9 rfl rfl)
theorem dX2_compact_57 : decode cX2_compact 57 = .ok (.getfield 114, 3) := dk_180 0 114 (dk_at dksX2_compact_2 10 rfl rfl)
theorem dX2_compact_60 : decode cX2_compact 60 = .ok (.iconst 1, 1) := dk_4 (dk_at dksX2_compact_2 13 rfl rfl)
theorem dX2_compact_61 : decode cX2_compact 61 = .ok (.iadd, 1) := dk_96 (dk_at dksX2_compact_2 14 rfl rfl)
theorem dX2_compact_62 : decode cX2_compact 62 = .ok (.istore 4, 2) := dk_54 4 (dk_at dksX2_compact_2 15 rfl rfl)
theorem dX2_compact_64 : decode cX2_compact 64 = .ok (.iload 4, 2) := dk_21 4 (dk_at dksX2_compact_2 17 rfl rfl)
theorem dX2_compact_66 : decode cX2_compact 66 = .ok (.aload_n 0, 1) := dk_42 (dk_at dksX2_compact_2 19 rfl rfl)
theorem dX2_compact_67 : decode cX2_compact 67 = .ok (.invokevirtual 79, 3) := dk_182 0 79 (dk_at dksX2_compact_2 20 rfl rfl)
theorem dX2_compact_70 : decode cX2_compact 70 = .ok (.if_icmp .gt 20, 3) := dk_163 0 20 (dk_at dksX2_compact_3 0 rfl rfl)
theorem dX2_compact_73 : decode cX2_compact 73 = .ok (.aload_n 3, 1) := dk_45 (dk_at dksX2_compact_3 3 rfl rfl)
theorem dX2_compact_74 : decode cX2_compact 74 = .ok (.aload_n 0, 1) := dk_42 (dk_at dksX2_compact_3 4 rfl rfl)
theorem dX2_compact_75 : decode cX2_compact 75 = .ok (.iload 4, 2) := dk_21 4 (dk_at dksX2_compact_3 5 rfl rfl)
theorem dX2_compact_77 : decode cX2_compact 77 = .ok (.invokevirtual 91, 3) := dk_182 0 91 (dk_at dksX2_compact_3 7 rfl rfl)
theorem dX2_compact_80 : decode cX2_compact 80 = .ok (.invokevirtual 150, 3) := dk_182 0 150 (dk_at dksX2_compact_3 10 rfl rfl)
theorem dX2_compact_83 : decode cX2_compact 83 = .ok (.pop, 1) := dk_87 (dk_at dksX2_compact_3 13 rfl rfl)
theorem dX2_compact_84 : decode cX2_compact 84 = .ok (.iinc 4 1, 3) := dk_132 4 1 (dk_at dksX2_compact_3 14 rfl rfl)
theorem dX2_compact_87 : decode cX2_compact 87 = .ok (.goto (-23), 3) := dk_167 255 233 (dk_at dksX2_compact_3 17 rfl rfl)
theorem dX2_compact_90 : decode cX2_compact 90 = .ok (.aload_n 0, 1) := dk_42 (dk_at dksX2_compact_3 20 rfl rfl)
theorem dX2_compact_91 : decode cX2_compact 91 = .ok (.aload_n 3, 1) := dk_45 (dk_at dksX2_compact_3 21 rfl rfl)
theorem dX2_compact_92 : decode cX2_compact 92 = .ok (.putfield 33, 3) := dk_181 0 33 (dk_at dksX2_compact_4 0 rfl rfl)
theorem dX2_compact_95 : decode cX2_compact 95 = .ok (.aload_n 0, 1) := dk_42 (dk_at dksX2_compact_4 3 rfl rfl)
theorem dX2_compact_96 : decode cX2_compact 96 = .ok (.aload_n 2, 1) := dk_44 (dk_at dksX2_compact_4 4 rfl rfl)
theorem dX2_compact_97 : decode cX2_compact 97 = .ok (.putfield 68, 3) := dk_181 0 68 (dk_at dksX2_compact_4 5 rfl rfl)
theorem dX2_compact_100 : decode cX2_compact 100 = .ok (.aload_n 0, 1) := dk_42 (dk_at dksX2_compact_4 8 rfl rfl)
theorem dX2_compact_101 : decode cX2_compact 101 = .ok (.aload_n 0, 1) := dk_42 (dk_at dksX2_compact_4 9 rfl rfl)
theorem dX2_compact_102 : decode cX2_compact 102 = .ok (.getfield 315, 3) := dk_180 1 59 (dk_at dksX2_compact_4 10 rfl rfl)
theorem dX2_compact_105 : decode cX2_compact 105 = .ok (.aload_n 2, 1) := dk_44 (dk_at dksX2_compact_4 13 rfl rfl)
theorem dX2_compact_106 : decode cX2_compact 106 = .ok (.getfield 72, 3) := dk_180 0 72 (dk_at dksX2_compact_4 14 rfl rfl)
theorem dX2_compact_109 : decode cX2_compact 109 = .ok (.invokestatic 339, 3) := dk_184 1 83 (dk_at dksX2_compact_4 17 rfl rfl)
theorem dX2_compact_112 : decode cX2_compact 112 = .ok (.putfield 315, 3) := dk_181 1 59 (dk_at dksX2_compact_4 20 rfl rfl)
theorem dX2_compact_115 : decode cX2_compact 115 = .ok (.iload_n 1, 1) := dk_27 (dk_at dksX2_compact_4 23 rfl rfl)
theorem dX2_compact_116 : decode cX2_compact 116 = .ok (.ireturn, 1) := dk_172 (dk_at dksX2_compact_5 0 rfl rfl)
abbrev cX2_membersAt : ByteArray := prog_9_method_7_code
def yX2_membersAt : MethodName := ⟨RX2, "membersAt", "(I)LQuorumAlmanac$Members;"⟩
def dkwX2_membersAt_3 : List UInt8 := [167, 255, 189, 42, 180, 0, 68, 180, 0, 110, 176]
abbrev dktX2_membersAt_3 : List UInt8 := dkwX2_membersAt_3 ++ []
def dkwX2_membersAt_2 : List UInt8 := [160, 0, 10, 45, 180, 0, 101, 167, 0, 4, 3, 45, 180, 0, 104, 183, 0, 107, 176, 132, 2, 255]
abbrev dktX2_membersAt_2 : List UInt8 := dkwX2_membersAt_2 ++ dktX2_membersAt_3
def dkwX2_membersAt_1 : List UInt8 := [16, 106, 159, 0, 12, 45, 180, 0, 96, 16, 110, 160, 0, 32, 187, 0, 99, 89, 45, 180, 0, 96, 16, 106]
abbrev dktX2_membersAt_1 : List UInt8 := dkwX2_membersAt_1 ++ dktX2_membersAt_2
def dkwX2_membersAt_0 : List UInt8 := [27, 61, 28, 42, 180, 0, 68, 180, 0, 72, 164, 0, 62, 42, 28, 182, 0, 91, 78, 45, 180, 0, 96]
abbrev dktX2_membersAt_0 : List UInt8 := dkwX2_membersAt_0 ++ dktX2_membersAt_1
theorem dksX2_membersAt_0 : cX2_membersAt.data.toList.drop 0 = dktX2_membersAt_0 := by decide +kernel
theorem dksX2_membersAt_1 : cX2_membersAt.data.toList.drop 23 = dktX2_membersAt_1 := dk_seg dksX2_membersAt_0 23 rfl rfl
theorem dksX2_membersAt_2 : cX2_membersAt.data.toList.drop 47 = dktX2_membersAt_2 := dk_seg dksX2_membersAt_1 24 rfl rfl
theorem dksX2_membersAt_3 : cX2_membersAt.data.toList.drop 69 = dktX2_membersAt_3 := dk_seg dksX2_membersAt_2 22 rfl rfl
theorem dX2_membersAt_0 : decode cX2_membersAt 0 = .ok (.iload_n 1, 1) := dk_27 (dk_at dksX2_membersAt_0 0 rfl rfl)
theorem dX2_membersAt_1 : decode cX2_membersAt 1 = .ok (.istore_n 2, 1) := dk_61 (dk_at dksX2_membersAt_0 1 rfl rfl)
theorem dX2_membersAt_2 : decode cX2_membersAt 2 = .ok (.iload_n 2, 1) := dk_28 (dk_at dksX2_membersAt_0 2 rfl rfl)
theorem dX2_membersAt_3 : decode cX2_membersAt 3 = .ok (.aload_n 0, 1) := dk_42 (dk_at dksX2_membersAt_0 3 rfl rfl)
theorem dX2_membersAt_4 : decode cX2_membersAt 4 = .ok (.getfield 68, 3) := dk_180 0 68 (dk_at dksX2_membersAt_0 4 rfl rfl)
theorem dX2_membersAt_7 : decode cX2_membersAt 7 = .ok (.getfield 72, 3) := dk_180 0 72 (dk_at dksX2_membersAt_0 7 rfl rfl)
theorem dX2_membersAt_10 : decode cX2_membersAt 10 = .ok (.if_icmp .le 62, 3) := dk_164 0 62 (dk_at dksX2_membersAt_0 10 rfl rfl)
theorem dX2_membersAt_13 : decode cX2_membersAt 13 = .ok (.aload_n 0, 1) := dk_42 (dk_at dksX2_membersAt_0 13 rfl rfl)
theorem dX2_membersAt_14 : decode cX2_membersAt 14 = .ok (.iload_n 2, 1) := dk_28 (dk_at dksX2_membersAt_0 14 rfl rfl)
theorem dX2_membersAt_15 : decode cX2_membersAt 15 = .ok (.invokevirtual 91, 3) := dk_182 0 91 (dk_at dksX2_membersAt_0 15 rfl rfl)
theorem dX2_membersAt_18 : decode cX2_membersAt 18 = .ok (.astore_n 3, 1) := dk_78 (dk_at dksX2_membersAt_0 18 rfl rfl)
theorem dX2_membersAt_19 : decode cX2_membersAt 19 = .ok (.aload_n 3, 1) := dk_45 (dk_at dksX2_membersAt_0 19 rfl rfl)
theorem dX2_membersAt_20 : decode cX2_membersAt 20 = .ok (.getfield 96, 3) := dk_180 0 96 (dk_at dksX2_membersAt_0 20 rfl rfl)
theorem dX2_membersAt_23 : decode cX2_membersAt 23 = .ok (.bipush 106, 2) := dk_16 106 (dk_at dksX2_membersAt_1 0 rfl rfl)
theorem dX2_membersAt_25 : decode cX2_membersAt 25 = .ok (.if_icmp .eq 12, 3) := dk_159 0 12 (dk_at dksX2_membersAt_1 2 rfl rfl)
theorem dX2_membersAt_28 : decode cX2_membersAt 28 = .ok (.aload_n 3, 1) := dk_45 (dk_at dksX2_membersAt_1 5 rfl rfl)
theorem dX2_membersAt_29 : decode cX2_membersAt 29 = .ok (.getfield 96, 3) := dk_180 0 96 (dk_at dksX2_membersAt_1 6 rfl rfl)
theorem dX2_membersAt_32 : decode cX2_membersAt 32 = .ok (.bipush 110, 2) := dk_16 110 (dk_at dksX2_membersAt_1 9 rfl rfl)
theorem dX2_membersAt_34 : decode cX2_membersAt 34 = .ok (.if_icmp .ne 32, 3) := dk_160 0 32 (dk_at dksX2_membersAt_1 11 rfl rfl)
theorem dX2_membersAt_37 : decode cX2_membersAt 37 = .ok (.new 99, 3) := dk_187 0 99 (dk_at dksX2_membersAt_1 14 rfl rfl)
theorem dX2_membersAt_40 : decode cX2_membersAt 40 = .ok (.dup, 1) := dk_89 (dk_at dksX2_membersAt_1 17 rfl rfl)
theorem dX2_membersAt_41 : decode cX2_membersAt 41 = .ok (.aload_n 3, 1) := dk_45 (dk_at dksX2_membersAt_1 18 rfl rfl)
theorem dX2_membersAt_42 : decode cX2_membersAt 42 = .ok (.getfield 96, 3) := dk_180 0 96 (dk_at dksX2_membersAt_1 19 rfl rfl)
theorem dX2_membersAt_45 : decode cX2_membersAt 45 = .ok (.bipush 106, 2) := dk_16 106 (dk_at dksX2_membersAt_1 22 rfl rfl)
theorem dX2_membersAt_47 : decode cX2_membersAt 47 = .ok (.if_icmp .ne 10, 3) := dk_160 0 10 (dk_at dksX2_membersAt_2 0 rfl rfl)
theorem dX2_membersAt_50 : decode cX2_membersAt 50 = .ok (.aload_n 3, 1) := dk_45 (dk_at dksX2_membersAt_2 3 rfl rfl)
theorem dX2_membersAt_51 : decode cX2_membersAt 51 = .ok (.getfield 101, 3) := dk_180 0 101 (dk_at dksX2_membersAt_2 4 rfl rfl)
theorem dX2_membersAt_54 : decode cX2_membersAt 54 = .ok (.goto 4, 3) := dk_167 0 4 (dk_at dksX2_membersAt_2 7 rfl rfl)
theorem dX2_membersAt_57 : decode cX2_membersAt 57 = .ok (.iconst 0, 1) := dk_3 (dk_at dksX2_membersAt_2 10 rfl rfl)
theorem dX2_membersAt_58 : decode cX2_membersAt 58 = .ok (.aload_n 3, 1) := dk_45 (dk_at dksX2_membersAt_2 11 rfl rfl)
theorem dX2_membersAt_59 : decode cX2_membersAt 59 = .ok (.getfield 104, 3) := dk_180 0 104 (dk_at dksX2_membersAt_2 12 rfl rfl)
theorem dX2_membersAt_62 : decode cX2_membersAt 62 = .ok (.invokespecial 107, 3) := dk_183 0 107 (dk_at dksX2_membersAt_2 15 rfl rfl)
theorem dX2_membersAt_65 : decode cX2_membersAt 65 = .ok (.areturn, 1) := dk_176 (dk_at dksX2_membersAt_2 18 rfl rfl)
theorem dX2_membersAt_66 : decode cX2_membersAt 66 = .ok (.iinc 2 (-1), 3) := dk_132 2 255 (dk_at dksX2_membersAt_2 19 rfl rfl)
theorem dX2_membersAt_69 : decode cX2_membersAt 69 = .ok (.goto (-67), 3) := dk_167 255 189 (dk_at dksX2_membersAt_3 0 rfl rfl)
theorem dX2_membersAt_72 : decode cX2_membersAt 72 = .ok (.aload_n 0, 1) := dk_42 (dk_at dksX2_membersAt_3 3 rfl rfl)
theorem dX2_membersAt_73 : decode cX2_membersAt 73 = .ok (.getfield 68, 3) := dk_180 0 68 (dk_at dksX2_membersAt_3 4 rfl rfl)
theorem dX2_membersAt_76 : decode cX2_membersAt 76 = .ok (.getfield 110, 3) := dk_180 0 110 (dk_at dksX2_membersAt_3 7 rfl rfl)
theorem dX2_membersAt_79 : decode cX2_membersAt 79 = .ok (.areturn, 1) := dk_176 (dk_at dksX2_membersAt_3 10 rfl rfl)
abbrev cX2_take : ByteArray := prog_9_method_27_code
def yX2_take : MethodName := ⟨RX2, "take", "(LQuorumAlmanac$Answer;)V"⟩
def dkwX2_take_4 : List UInt8 := [42, 182, 1, 7, 177]
abbrev dktX2_take_4 : List UInt8 := dkwX2_take_4 ++ []
def dkwX2_take_3 : List UInt8 := [79, 42, 180, 0, 54, 28, 42, 180, 0, 54, 28, 46, 43, 180, 1, 106, 184, 1, 83, 79, 42, 182, 1, 107]
abbrev dktX2_take_3 : List UInt8 := dkwX2_take_3 ++ dktX2_take_4
def dkwX2_take_2 : List UInt8 := [180, 1, 105, 79, 42, 180, 0, 47, 28, 42, 180, 0, 47, 28, 46, 43, 180, 1, 105, 4, 96, 184, 1, 83]
abbrev dktX2_take_2 : List UInt8 := dkwX2_take_2 ++ dktX2_take_3
def dkwX2_take_1 : List UInt8 := [96, 79, 167, 0, 47, 43, 180, 1, 105, 42, 180, 0, 51, 28, 46, 164, 0, 34, 42, 180, 0, 51, 28, 43]
abbrev dktX2_take_1 : List UInt8 := dkwX2_take_1 ++ dktX2_take_2
def dkwX2_take_0 : List UInt8 := [43, 180, 1, 101, 61, 43, 180, 1, 102, 16, 114, 160, 0, 18, 42, 180, 0, 47, 28, 43, 180, 1, 105, 4]
abbrev dktX2_take_0 : List UInt8 := dkwX2_take_0 ++ dktX2_take_1
theorem dksX2_take_0 : cX2_take.data.toList.drop 0 = dktX2_take_0 := by decide +kernel
theorem dksX2_take_1 : cX2_take.data.toList.drop 24 = dktX2_take_1 := dk_seg dksX2_take_0 24 rfl rfl
theorem dksX2_take_2 : cX2_take.data.toList.drop 48 = dktX2_take_2 := dk_seg dksX2_take_1 24 rfl rfl
theorem dksX2_take_3 : cX2_take.data.toList.drop 72 = dktX2_take_3 := dk_seg dksX2_take_2 24 rfl rfl
theorem dksX2_take_4 : cX2_take.data.toList.drop 96 = dktX2_take_4 := dk_seg dksX2_take_3 24 rfl rfl
theorem dX2_take_0 : decode cX2_take 0 = .ok (.aload_n 1, 1) := dk_43 (dk_at dksX2_take_0 0 rfl rfl)
theorem dX2_take_1 : decode cX2_take 1 = .ok (.getfield 357, 3) := dk_180 1 101 (dk_at dksX2_take_0 1 rfl rfl)
theorem dX2_take_4 : decode cX2_take 4 = .ok (.istore_n 2, 1) := dk_61 (dk_at dksX2_take_0 4 rfl rfl)
theorem dX2_take_5 : decode cX2_take 5 = .ok (.aload_n 1, 1) := dk_43 (dk_at dksX2_take_0 5 rfl rfl)
theorem dX2_take_6 : decode cX2_take 6 = .ok (.getfield 358, 3) := dk_180 1 102 (dk_at dksX2_take_0 6 rfl rfl)
theorem dX2_take_9 : decode cX2_take 9 = .ok (.bipush 114, 2) := dk_16 114 (dk_at dksX2_take_0 9 rfl rfl)
theorem dX2_take_11 : decode cX2_take 11 = .ok (.if_icmp .ne 18, 3) := dk_160 0 18 (dk_at dksX2_take_0 11 rfl rfl)
theorem dX2_take_14 : decode cX2_take 14 = .ok (.aload_n 0, 1) := dk_42 (dk_at dksX2_take_0 14 rfl rfl)
theorem dX2_take_15 : decode cX2_take 15 = .ok (.getfield 47, 3) := dk_180 0 47 (dk_at dksX2_take_0 15 rfl rfl)
theorem dX2_take_18 : decode cX2_take 18 = .ok (.iload_n 2, 1) := dk_28 (dk_at dksX2_take_0 18 rfl rfl)
theorem dX2_take_19 : decode cX2_take 19 = .ok (.aload_n 1, 1) := dk_43 (dk_at dksX2_take_0 19 rfl rfl)
theorem dX2_take_20 : decode cX2_take 20 = .ok (.getfield 361, 3) := dk_180 1 105 (dk_at dksX2_take_0 20 rfl rfl)
theorem dX2_take_23 : decode cX2_take 23 = .ok (.iconst 1, 1) := dk_4 (dk_at dksX2_take_0 23 rfl rfl)
theorem dX2_take_24 : decode cX2_take 24 = .ok (.iadd, 1) := dk_96 (dk_at dksX2_take_1 0 rfl rfl)
theorem dX2_take_25 : decode cX2_take 25 = .ok (.iastore, 1) := dk_79 (dk_at dksX2_take_1 1 rfl rfl)
theorem dX2_take_26 : decode cX2_take 26 = .ok (.goto 47, 3) := dk_167 0 47 (dk_at dksX2_take_1 2 rfl rfl)
theorem dX2_take_29 : decode cX2_take 29 = .ok (.aload_n 1, 1) := dk_43 (dk_at dksX2_take_1 5 rfl rfl)
theorem dX2_take_30 : decode cX2_take 30 = .ok (.getfield 361, 3) := dk_180 1 105 (dk_at dksX2_take_1 6 rfl rfl)
theorem dX2_take_33 : decode cX2_take 33 = .ok (.aload_n 0, 1) := dk_42 (dk_at dksX2_take_1 9 rfl rfl)
theorem dX2_take_34 : decode cX2_take 34 = .ok (.getfield 51, 3) := dk_180 0 51 (dk_at dksX2_take_1 10 rfl rfl)
theorem dX2_take_37 : decode cX2_take 37 = .ok (.iload_n 2, 1) := dk_28 (dk_at dksX2_take_1 13 rfl rfl)
theorem dX2_take_38 : decode cX2_take 38 = .ok (.iaload, 1) := dk_46 (dk_at dksX2_take_1 14 rfl rfl)
theorem dX2_take_39 : decode cX2_take 39 = .ok (.if_icmp .le 34, 3) := dk_164 0 34 (dk_at dksX2_take_1 15 rfl rfl)
theorem dX2_take_42 : decode cX2_take 42 = .ok (.aload_n 0, 1) := dk_42 (dk_at dksX2_take_1 18 rfl rfl)
theorem dX2_take_43 : decode cX2_take 43 = .ok (.getfield 51, 3) := dk_180 0 51 (dk_at dksX2_take_1 19 rfl rfl)
theorem dX2_take_46 : decode cX2_take 46 = .ok (.iload_n 2, 1) := dk_28 (dk_at dksX2_take_1 22 rfl rfl)
theorem dX2_take_47 : decode cX2_take 47 = .ok (.aload_n 1, 1) := dk_43 (dk_at dksX2_take_1 23 rfl rfl)
theorem dX2_take_48 : decode cX2_take 48 = .ok (.getfield 361, 3) := dk_180 1 105 (dk_at dksX2_take_2 0 rfl rfl)
theorem dX2_take_51 : decode cX2_take 51 = .ok (.iastore, 1) := dk_79 (dk_at dksX2_take_2 3 rfl rfl)
theorem dX2_take_52 : decode cX2_take 52 = .ok (.aload_n 0, 1) := dk_42 (dk_at dksX2_take_2 4 rfl rfl)
theorem dX2_take_53 : decode cX2_take 53 = .ok (.getfield 47, 3) := dk_180 0 47 (dk_at dksX2_take_2 5 rfl rfl)
theorem dX2_take_56 : decode cX2_take 56 = .ok (.iload_n 2, 1) := dk_28 (dk_at dksX2_take_2 8 rfl rfl)
theorem dX2_take_57 : decode cX2_take 57 = .ok (.aload_n 0, 1) := dk_42 (dk_at dksX2_take_2 9 rfl rfl)
theorem dX2_take_58 : decode cX2_take 58 = .ok (.getfield 47, 3) := dk_180 0 47 (dk_at dksX2_take_2 10 rfl rfl)
theorem dX2_take_61 : decode cX2_take 61 = .ok (.iload_n 2, 1) := dk_28 (dk_at dksX2_take_2 13 rfl rfl)
theorem dX2_take_62 : decode cX2_take 62 = .ok (.iaload, 1) := dk_46 (dk_at dksX2_take_2 14 rfl rfl)
theorem dX2_take_63 : decode cX2_take 63 = .ok (.aload_n 1, 1) := dk_43 (dk_at dksX2_take_2 15 rfl rfl)
theorem dX2_take_64 : decode cX2_take 64 = .ok (.getfield 361, 3) := dk_180 1 105 (dk_at dksX2_take_2 16 rfl rfl)
theorem dX2_take_67 : decode cX2_take 67 = .ok (.iconst 1, 1) := dk_4 (dk_at dksX2_take_2 19 rfl rfl)
theorem dX2_take_68 : decode cX2_take 68 = .ok (.iadd, 1) := dk_96 (dk_at dksX2_take_2 20 rfl rfl)
theorem dX2_take_69 : decode cX2_take 69 = .ok (.invokestatic 339, 3) := dk_184 1 83 (dk_at dksX2_take_2 21 rfl rfl)
theorem dX2_take_72 : decode cX2_take 72 = .ok (.iastore, 1) := dk_79 (dk_at dksX2_take_3 0 rfl rfl)
theorem dX2_take_73 : decode cX2_take 73 = .ok (.aload_n 0, 1) := dk_42 (dk_at dksX2_take_3 1 rfl rfl)
theorem dX2_take_74 : decode cX2_take 74 = .ok (.getfield 54, 3) := dk_180 0 54 (dk_at dksX2_take_3 2 rfl rfl)
theorem dX2_take_77 : decode cX2_take 77 = .ok (.iload_n 2, 1) := dk_28 (dk_at dksX2_take_3 5 rfl rfl)
theorem dX2_take_78 : decode cX2_take 78 = .ok (.aload_n 0, 1) := dk_42 (dk_at dksX2_take_3 6 rfl rfl)
theorem dX2_take_79 : decode cX2_take 79 = .ok (.getfield 54, 3) := dk_180 0 54 (dk_at dksX2_take_3 7 rfl rfl)
theorem dX2_take_82 : decode cX2_take 82 = .ok (.iload_n 2, 1) := dk_28 (dk_at dksX2_take_3 10 rfl rfl)
theorem dX2_take_83 : decode cX2_take 83 = .ok (.iaload, 1) := dk_46 (dk_at dksX2_take_3 11 rfl rfl)
theorem dX2_take_84 : decode cX2_take 84 = .ok (.aload_n 1, 1) := dk_43 (dk_at dksX2_take_3 12 rfl rfl)
theorem dX2_take_85 : decode cX2_take 85 = .ok (.getfield 362, 3) := dk_180 1 106 (dk_at dksX2_take_3 13 rfl rfl)
theorem dX2_take_88 : decode cX2_take 88 = .ok (.invokestatic 339, 3) := dk_184 1 83 (dk_at dksX2_take_3 16 rfl rfl)
theorem dX2_take_91 : decode cX2_take 91 = .ok (.iastore, 1) := dk_79 (dk_at dksX2_take_3 19 rfl rfl)
theorem dX2_take_92 : decode cX2_take 92 = .ok (.aload_n 0, 1) := dk_42 (dk_at dksX2_take_3 20 rfl rfl)
theorem dX2_take_93 : decode cX2_take 93 = .ok (.invokevirtual 363, 3) := dk_182 1 107 (dk_at dksX2_take_3 21 rfl rfl)
theorem dX2_take_96 : decode cX2_take 96 = .ok (.aload_n 0, 1) := dk_42 (dk_at dksX2_take_4 0 rfl rfl)
theorem dX2_take_97 : decode cX2_take 97 = .ok (.invokevirtual 263, 3) := dk_182 1 7 (dk_at dksX2_take_4 1 rfl rfl)
theorem dX2_take_100 : decode cX2_take 100 = .ok (.return_, 1) := dk_177 (dk_at dksX2_take_4 4 rfl rfl)
abbrev cX2_lower : ByteArray := prog_9_method_21_code
def yX2_lower : MethodName := ⟨RX2, "lower", "(LQuorumAlmanac$RoundMessage;)V"⟩
def dkwX2_lower_2 : List UInt8 := [183, 1, 31, 182, 0, 217, 177]
abbrev dktX2_lower_2 : List UInt8 := dkwX2_lower_2 ++ []
def dkwX2_lower_1 : List UInt8 := [180, 0, 3, 182, 0, 207, 42, 180, 0, 60, 43, 180, 1, 20, 42, 180, 0, 143, 3, 16, 116, 3]
abbrev dktX2_lower_1 : List UInt8 := dkwX2_lower_1 ++ dktX2_lower_2
def dkwX2_lower_0 : List UInt8 := [42, 180, 0, 3, 89, 180, 1, 26, 4, 96, 181, 1, 26, 42, 180, 0, 3, 187, 1, 29, 89, 42]
abbrev dktX2_lower_0 : List UInt8 := dkwX2_lower_0 ++ dktX2_lower_1
theorem dksX2_lower_0 : cX2_lower.data.toList.drop 0 = dktX2_lower_0 := by decide +kernel
theorem dksX2_lower_1 : cX2_lower.data.toList.drop 22 = dktX2_lower_1 := dk_seg dksX2_lower_0 22 rfl rfl
theorem dksX2_lower_2 : cX2_lower.data.toList.drop 44 = dktX2_lower_2 := dk_seg dksX2_lower_1 22 rfl rfl
theorem dX2_lower_0 : decode cX2_lower 0 = .ok (.aload_n 0, 1) := dk_42 (dk_at dksX2_lower_0 0 rfl rfl)
theorem dX2_lower_1 : decode cX2_lower 1 = .ok (.getfield 3, 3) := dk_180 0 3 (dk_at dksX2_lower_0 1 rfl rfl)
theorem dX2_lower_4 : decode cX2_lower 4 = .ok (.dup, 1) := dk_89 (dk_at dksX2_lower_0 4 rfl rfl)
theorem dX2_lower_5 : decode cX2_lower 5 = .ok (.getfield 282, 3) := dk_180 1 26 (dk_at dksX2_lower_0 5 rfl rfl)
theorem dX2_lower_8 : decode cX2_lower 8 = .ok (.iconst 1, 1) := dk_4 (dk_at dksX2_lower_0 8 rfl rfl)
theorem dX2_lower_9 : decode cX2_lower 9 = .ok (.iadd, 1) := dk_96 (dk_at dksX2_lower_0 9 rfl rfl)
theorem dX2_lower_10 : decode cX2_lower 10 = .ok (.putfield 282, 3) := dk_181 1 26 (dk_at dksX2_lower_0 10 rfl rfl)
theorem dX2_lower_13 : decode cX2_lower 13 = .ok (.aload_n 0, 1) := dk_42 (dk_at dksX2_lower_0 13 rfl rfl)
theorem dX2_lower_14 : decode cX2_lower 14 = .ok (.getfield 3, 3) := dk_180 0 3 (dk_at dksX2_lower_0 14 rfl rfl)
theorem dX2_lower_17 : decode cX2_lower 17 = .ok (.new 285, 3) := dk_187 1 29 (dk_at dksX2_lower_0 17 rfl rfl)
theorem dX2_lower_20 : decode cX2_lower 20 = .ok (.dup, 1) := dk_89 (dk_at dksX2_lower_0 20 rfl rfl)
theorem dX2_lower_21 : decode cX2_lower 21 = .ok (.aload_n 0, 1) := dk_42 (dk_at dksX2_lower_0 21 rfl rfl)
theorem dX2_lower_22 : decode cX2_lower 22 = .ok (.getfield 3, 3) := dk_180 0 3 (dk_at dksX2_lower_1 0 rfl rfl)
theorem dX2_lower_25 : decode cX2_lower 25 = .ok (.invokevirtual 207, 3) := dk_182 0 207 (dk_at dksX2_lower_1 3 rfl rfl)
theorem dX2_lower_28 : decode cX2_lower 28 = .ok (.aload_n 0, 1) := dk_42 (dk_at dksX2_lower_1 6 rfl rfl)
theorem dX2_lower_29 : decode cX2_lower 29 = .ok (.getfield 60, 3) := dk_180 0 60 (dk_at dksX2_lower_1 7 rfl rfl)
theorem dX2_lower_32 : decode cX2_lower 32 = .ok (.aload_n 1, 1) := dk_43 (dk_at dksX2_lower_1 10 rfl rfl)
theorem dX2_lower_33 : decode cX2_lower 33 = .ok (.getfield 276, 3) := dk_180 1 20 (dk_at dksX2_lower_1 11 rfl rfl)
theorem dX2_lower_36 : decode cX2_lower 36 = .ok (.aload_n 0, 1) := dk_42 (dk_at dksX2_lower_1 14 rfl rfl)
theorem dX2_lower_37 : decode cX2_lower 37 = .ok (.getfield 143, 3) := dk_180 0 143 (dk_at dksX2_lower_1 15 rfl rfl)
theorem dX2_lower_40 : decode cX2_lower 40 = .ok (.iconst 0, 1) := dk_3 (dk_at dksX2_lower_1 18 rfl rfl)
theorem dX2_lower_41 : decode cX2_lower 41 = .ok (.bipush 116, 2) := dk_16 116 (dk_at dksX2_lower_1 19 rfl rfl)
theorem dX2_lower_43 : decode cX2_lower 43 = .ok (.iconst 0, 1) := dk_3 (dk_at dksX2_lower_1 21 rfl rfl)
theorem dX2_lower_44 : decode cX2_lower 44 = .ok (.invokespecial 287, 3) := dk_183 1 31 (dk_at dksX2_lower_2 0 rfl rfl)
theorem dX2_lower_47 : decode cX2_lower 47 = .ok (.invokevirtual 217, 3) := dk_182 0 217 (dk_at dksX2_lower_2 3 rfl rfl)
theorem dX2_lower_50 : decode cX2_lower 50 = .ok (.return_, 1) := dk_177 (dk_at dksX2_lower_2 6 rfl rfl)
abbrev cX2_hear : ByteArray := prog_9_method_20_code
def yX2_hear : MethodName := ⟨RX2, "hear", "(LQuorumAlmanac$RoundMessage;)V"⟩
def dkwX2_hear_1 : List UInt8 := [180, 1, 20, 181, 0, 44, 42, 43, 180, 1, 23, 181, 0, 183, 177]
abbrev dktX2_hear_1 : List UInt8 := dkwX2_hear_1 ++ []
def dkwX2_hear_0 : List UInt8 := [42, 16, 102, 181, 0, 19, 42, 42, 180, 0, 186, 181, 0, 199, 42, 42, 180, 0, 186, 181, 0, 27, 42, 43]
abbrev dktX2_hear_0 : List UInt8 := dkwX2_hear_0 ++ dktX2_hear_1
theorem dksX2_hear_0 : cX2_hear.data.toList.drop 0 = dktX2_hear_0 := by decide +kernel
theorem dksX2_hear_1 : cX2_hear.data.toList.drop 24 = dktX2_hear_1 := dk_seg dksX2_hear_0 24 rfl rfl
theorem dX2_hear_0 : decode cX2_hear 0 = .ok (.aload_n 0, 1) := dk_42 (dk_at dksX2_hear_0 0 rfl rfl)
theorem dX2_hear_1 : decode cX2_hear 1 = .ok (.bipush 102, 2) := dk_16 102 (dk_at dksX2_hear_0 1 rfl rfl)
theorem dX2_hear_3 : decode cX2_hear 3 = .ok (.putfield 19, 3) := dk_181 0 19 (dk_at dksX2_hear_0 3 rfl rfl)
theorem dX2_hear_6 : decode cX2_hear 6 = .ok (.aload_n 0, 1) := dk_42 (dk_at dksX2_hear_0 6 rfl rfl)
theorem dX2_hear_7 : decode cX2_hear 7 = .ok (.aload_n 0, 1) := dk_42 (dk_at dksX2_hear_0 7 rfl rfl)
theorem dX2_hear_8 : decode cX2_hear 8 = .ok (.getfield 186, 3) := dk_180 0 186 (dk_at dksX2_hear_0 8 rfl rfl)
theorem dX2_hear_11 : decode cX2_hear 11 = .ok (.putfield 199, 3) := dk_181 0 199 (dk_at dksX2_hear_0 11 rfl rfl)
theorem dX2_hear_14 : decode cX2_hear 14 = .ok (.aload_n 0, 1) := dk_42 (dk_at dksX2_hear_0 14 rfl rfl)
theorem dX2_hear_15 : decode cX2_hear 15 = .ok (.aload_n 0, 1) := dk_42 (dk_at dksX2_hear_0 15 rfl rfl)
theorem dX2_hear_16 : decode cX2_hear 16 = .ok (.getfield 186, 3) := dk_180 0 186 (dk_at dksX2_hear_0 16 rfl rfl)
theorem dX2_hear_19 : decode cX2_hear 19 = .ok (.putfield 27, 3) := dk_181 0 27 (dk_at dksX2_hear_0 19 rfl rfl)
theorem dX2_hear_22 : decode cX2_hear 22 = .ok (.aload_n 0, 1) := dk_42 (dk_at dksX2_hear_0 22 rfl rfl)
theorem dX2_hear_23 : decode cX2_hear 23 = .ok (.aload_n 1, 1) := dk_43 (dk_at dksX2_hear_0 23 rfl rfl)
theorem dX2_hear_24 : decode cX2_hear 24 = .ok (.getfield 276, 3) := dk_180 1 20 (dk_at dksX2_hear_1 0 rfl rfl)
theorem dX2_hear_27 : decode cX2_hear 27 = .ok (.putfield 44, 3) := dk_181 0 44 (dk_at dksX2_hear_1 3 rfl rfl)
theorem dX2_hear_30 : decode cX2_hear 30 = .ok (.aload_n 0, 1) := dk_42 (dk_at dksX2_hear_1 6 rfl rfl)
theorem dX2_hear_31 : decode cX2_hear 31 = .ok (.aload_n 1, 1) := dk_43 (dk_at dksX2_hear_1 7 rfl rfl)
theorem dX2_hear_32 : decode cX2_hear 32 = .ok (.getfield 279, 3) := dk_180 1 23 (dk_at dksX2_hear_1 8 rfl rfl)
theorem dX2_hear_35 : decode cX2_hear 35 = .ok (.putfield 183, 3) := dk_181 0 183 (dk_at dksX2_hear_1 11 rfl rfl)
theorem dX2_hear_38 : decode cX2_hear 38 = .ok (.return_, 1) := dk_177 (dk_at dksX2_hear_1 14 rfl rfl)
abbrev cX2_append : ByteArray := prog_9_method_23_code
def yX2_append : MethodName := ⟨RX2, "append", "(LQuorumAlmanac$Append;)V"⟩
def dkwX2_append_8 : List UInt8 := [182, 0, 217, 25, 5, 191, 177]
abbrev dktX2_append_8 : List UInt8 := dkwX2_append_8 ++ []
def dkwX2_append_7 : List UInt8 := [182, 0, 207, 42, 180, 0, 60, 43, 180, 1, 68, 42, 180, 0, 143, 43, 180, 1, 69, 28, 29, 183, 1, 31]
abbrev dktX2_append_7 : List UInt8 := dkwX2_append_7 ++ dktX2_append_8
def dkwX2_append_6 : List UInt8 := [183, 1, 31, 182, 0, 217, 167, 0, 47, 58, 5, 42, 180, 0, 3, 187, 1, 29, 89, 42, 180, 0, 3]
abbrev dktX2_append_6 : List UInt8 := dkwX2_append_6 ++ dktX2_append_7
def dkwX2_append_5 : List UInt8 := [180, 0, 3, 182, 0, 207, 42, 180, 0, 60, 43, 180, 1, 68, 42, 180, 0, 143, 43, 180, 1, 69, 28, 29]
abbrev dktX2_append_5 : List UInt8 := dkwX2_append_5 ++ dktX2_append_6
def dkwX2_append_4 : List UInt8 := [167, 0, 4, 4, 96, 181, 1, 26, 25, 4, 180, 1, 74, 62, 42, 180, 0, 3, 187, 1, 29, 89, 42]
abbrev dktX2_append_4 : List UInt8 := dkwX2_append_4 ++ dktX2_append_5
def dkwX2_append_3 : List UInt8 := [167, 0, 122, 58, 4, 42, 180, 0, 3, 89, 180, 1, 26, 25, 4, 182, 1, 70, 199, 0, 7, 3]
abbrev dktX2_append_3 : List UInt8 := dkwX2_append_3 ++ dktX2_append_4
def dkwX2_append_2 : List UInt8 := [180, 0, 60, 43, 180, 1, 68, 42, 180, 0, 143, 43, 180, 1, 69, 28, 29, 183, 1, 31, 182, 0, 217]
abbrev dktX2_append_2 : List UInt8 := dkwX2_append_2 ++ dktX2_append_3
def dkwX2_append_1 : List UInt8 := [180, 1, 59, 184, 1, 62, 62, 42, 180, 0, 3, 187, 1, 29, 89, 42, 180, 0, 3, 182, 0, 207, 42]
abbrev dktX2_append_1 : List UInt8 := dkwX2_append_1 ++ dktX2_append_2
def dkwX2_append_0 : List UInt8 := [16, 114, 61, 3, 62, 42, 43, 182, 1, 53, 42, 43, 182, 1, 57, 16, 97, 61, 42, 180, 0, 180, 42]
abbrev dktX2_append_0 : List UInt8 := dkwX2_append_0 ++ dktX2_append_1
theorem dksX2_append_0 : cX2_append.data.toList.drop 0 = dktX2_append_0 := by decide +kernel
theorem dksX2_append_1 : cX2_append.data.toList.drop 23 = dktX2_append_1 := dk_seg dksX2_append_0 23 rfl rfl
theorem dksX2_append_2 : cX2_append.data.toList.drop 46 = dktX2_append_2 := dk_seg dksX2_append_1 23 rfl rfl
theorem dksX2_append_3 : cX2_append.data.toList.drop 69 = dktX2_append_3 := dk_seg dksX2_append_2 23 rfl rfl
theorem dksX2_append_4 : cX2_append.data.toList.drop 91 = dktX2_append_4 := dk_seg dksX2_append_3 22 rfl rfl
theorem dksX2_append_5 : cX2_append.data.toList.drop 114 = dktX2_append_5 := dk_seg dksX2_append_4 23 rfl rfl
theorem dksX2_append_6 : cX2_append.data.toList.drop 138 = dktX2_append_6 := dk_seg dksX2_append_5 24 rfl rfl
theorem dksX2_append_7 : cX2_append.data.toList.drop 161 = dktX2_append_7 := dk_seg dksX2_append_6 23 rfl rfl
theorem dksX2_append_8 : cX2_append.data.toList.drop 185 = dktX2_append_8 := dk_seg dksX2_append_7 24 rfl rfl
theorem dX2_append_0 : decode cX2_append 0 = .ok (.bipush 114, 2) := dk_16 114 (dk_at dksX2_append_0 0 rfl rfl)
theorem dX2_append_2 : decode cX2_append 2 = .ok (.istore_n 2, 1) := dk_61 (dk_at dksX2_append_0 2 rfl rfl)
theorem dX2_append_3 : decode cX2_append 3 = .ok (.iconst 0, 1) := dk_3 (dk_at dksX2_append_0 3 rfl rfl)
theorem dX2_append_4 : decode cX2_append 4 = .ok (.istore_n 3, 1) := dk_62 (dk_at dksX2_append_0 4 rfl rfl)
theorem dX2_append_5 : decode cX2_append 5 = .ok (.aload_n 0, 1) := dk_42 (dk_at dksX2_append_0 5 rfl rfl)
theorem dX2_append_6 : decode cX2_append 6 = .ok (.aload_n 1, 1) := dk_43 (dk_at dksX2_append_0 6 rfl rfl)
theorem dX2_append_7 : decode cX2_append 7 = .ok (.invokevirtual 309, 3) := dk_182 1 53 (dk_at dksX2_append_0 7 rfl rfl)
theorem dX2_append_10 : decode cX2_append 10 = .ok (.aload_n 0, 1) := dk_42 (dk_at dksX2_append_0 10 rfl rfl)
theorem dX2_append_11 : decode cX2_append 11 = .ok (.aload_n 1, 1) := dk_43 (dk_at dksX2_append_0 11 rfl rfl)
theorem dX2_append_12 : decode cX2_append 12 = .ok (.invokevirtual 313, 3) := dk_182 1 57 (dk_at dksX2_append_0 12 rfl rfl)
theorem dX2_append_15 : decode cX2_append 15 = .ok (.bipush 97, 2) := dk_16 97 (dk_at dksX2_append_0 15 rfl rfl)
theorem dX2_append_17 : decode cX2_append 17 = .ok (.istore_n 2, 1) := dk_61 (dk_at dksX2_append_0 17 rfl rfl)
theorem dX2_append_18 : decode cX2_append 18 = .ok (.aload_n 0, 1) := dk_42 (dk_at dksX2_append_0 18 rfl rfl)
theorem dX2_append_19 : decode cX2_append 19 = .ok (.getfield 180, 3) := dk_180 0 180 (dk_at dksX2_append_0 19 rfl rfl)
theorem dX2_append_22 : decode cX2_append 22 = .ok (.aload_n 0, 1) := dk_42 (dk_at dksX2_append_0 22 rfl rfl)
theorem dX2_append_23 : decode cX2_append 23 = .ok (.getfield 315, 3) := dk_180 1 59 (dk_at dksX2_append_1 0 rfl rfl)
theorem dX2_append_26 : decode cX2_append 26 = .ok (.invokestatic 318, 3) := dk_184 1 62 (dk_at dksX2_append_1 3 rfl rfl)
theorem dX2_append_29 : decode cX2_append 29 = .ok (.istore_n 3, 1) := dk_62 (dk_at dksX2_append_1 6 rfl rfl)
theorem dX2_append_30 : decode cX2_append 30 = .ok (.aload_n 0, 1) := dk_42 (dk_at dksX2_append_1 7 rfl rfl)
theorem dX2_append_31 : decode cX2_append 31 = .ok (.getfield 3, 3) := dk_180 0 3 (dk_at dksX2_append_1 8 rfl rfl)
theorem dX2_append_34 : decode cX2_append 34 = .ok (.new 285, 3) := dk_187 1 29 (dk_at dksX2_append_1 11 rfl rfl)
theorem dX2_append_37 : decode cX2_append 37 = .ok (.dup, 1) := dk_89 (dk_at dksX2_append_1 14 rfl rfl)
theorem dX2_append_38 : decode cX2_append 38 = .ok (.aload_n 0, 1) := dk_42 (dk_at dksX2_append_1 15 rfl rfl)
theorem dX2_append_39 : decode cX2_append 39 = .ok (.getfield 3, 3) := dk_180 0 3 (dk_at dksX2_append_1 16 rfl rfl)
theorem dX2_append_42 : decode cX2_append 42 = .ok (.invokevirtual 207, 3) := dk_182 0 207 (dk_at dksX2_append_1 19 rfl rfl)
theorem dX2_append_45 : decode cX2_append 45 = .ok (.aload_n 0, 1) := dk_42 (dk_at dksX2_append_1 22 rfl rfl)
theorem dX2_append_46 : decode cX2_append 46 = .ok (.getfield 60, 3) := dk_180 0 60 (dk_at dksX2_append_2 0 rfl rfl)
theorem dX2_append_49 : decode cX2_append 49 = .ok (.aload_n 1, 1) := dk_43 (dk_at dksX2_append_2 3 rfl rfl)
theorem dX2_append_50 : decode cX2_append 50 = .ok (.getfield 324, 3) := dk_180 1 68 (dk_at dksX2_append_2 4 rfl rfl)
theorem dX2_append_53 : decode cX2_append 53 = .ok (.aload_n 0, 1) := dk_42 (dk_at dksX2_append_2 7 rfl rfl)
theorem dX2_append_54 : decode cX2_append 54 = .ok (.getfield 143, 3) := dk_180 0 143 (dk_at dksX2_append_2 8 rfl rfl)
theorem dX2_append_57 : decode cX2_append 57 = .ok (.aload_n 1, 1) := dk_43 (dk_at dksX2_append_2 11 rfl rfl)
theorem dX2_append_58 : decode cX2_append 58 = .ok (.getfield 325, 3) := dk_180 1 69 (dk_at dksX2_append_2 12 rfl rfl)
theorem dX2_append_61 : decode cX2_append 61 = .ok (.iload_n 2, 1) := dk_28 (dk_at dksX2_append_2 15 rfl rfl)
theorem dX2_append_62 : decode cX2_append 62 = .ok (.iload_n 3, 1) := dk_29 (dk_at dksX2_append_2 16 rfl rfl)
theorem dX2_append_63 : decode cX2_append 63 = .ok (.invokespecial 287, 3) := dk_183 1 31 (dk_at dksX2_append_2 17 rfl rfl)
theorem dX2_append_66 : decode cX2_append 66 = .ok (.invokevirtual 217, 3) := dk_182 0 217 (dk_at dksX2_append_2 20 rfl rfl)
theorem dX2_append_69 : decode cX2_append 69 = .ok (.goto 122, 3) := dk_167 0 122 (dk_at dksX2_append_3 0 rfl rfl)
theorem dX2_append_72 : decode cX2_append 72 = .ok (.astore 4, 2) := dk_58 4 (dk_at dksX2_append_3 3 rfl rfl)
theorem dX2_append_74 : decode cX2_append 74 = .ok (.aload_n 0, 1) := dk_42 (dk_at dksX2_append_3 5 rfl rfl)
theorem dX2_append_75 : decode cX2_append 75 = .ok (.getfield 3, 3) := dk_180 0 3 (dk_at dksX2_append_3 6 rfl rfl)
theorem dX2_append_78 : decode cX2_append 78 = .ok (.dup, 1) := dk_89 (dk_at dksX2_append_3 9 rfl rfl)
theorem dX2_append_79 : decode cX2_append 79 = .ok (.getfield 282, 3) := dk_180 1 26 (dk_at dksX2_append_3 10 rfl rfl)
theorem dX2_append_82 : decode cX2_append 82 = .ok (.aload 4, 2) := dk_25 4 (dk_at dksX2_append_3 13 rfl rfl)
theorem dX2_append_84 : decode cX2_append 84 = .ok (.invokevirtual 326, 3) := dk_182 1 70 (dk_at dksX2_append_3 15 rfl rfl)
theorem dX2_append_87 : decode cX2_append 87 = .ok (.ifnonnull 7, 3) := dk_199 0 7 (dk_at dksX2_append_3 18 rfl rfl)
theorem dX2_append_90 : decode cX2_append 90 = .ok (.iconst 0, 1) := dk_3 (dk_at dksX2_append_3 21 rfl rfl)
theorem dX2_append_91 : decode cX2_append 91 = .ok (.goto 4, 3) := dk_167 0 4 (dk_at dksX2_append_4 0 rfl rfl)
theorem dX2_append_94 : decode cX2_append 94 = .ok (.iconst 1, 1) := dk_4 (dk_at dksX2_append_4 3 rfl rfl)
theorem dX2_append_95 : decode cX2_append 95 = .ok (.iadd, 1) := dk_96 (dk_at dksX2_append_4 4 rfl rfl)
theorem dX2_append_96 : decode cX2_append 96 = .ok (.putfield 282, 3) := dk_181 1 26 (dk_at dksX2_append_4 5 rfl rfl)
theorem dX2_append_99 : decode cX2_append 99 = .ok (.aload 4, 2) := dk_25 4 (dk_at dksX2_append_4 8 rfl rfl)
theorem dX2_append_101 : decode cX2_append 101 = .ok (.getfield 330, 3) := dk_180 1 74 (dk_at dksX2_append_4 10 rfl rfl)
theorem dX2_append_104 : decode cX2_append 104 = .ok (.istore_n 3, 1) := dk_62 (dk_at dksX2_append_4 13 rfl rfl)
theorem dX2_append_105 : decode cX2_append 105 = .ok (.aload_n 0, 1) := dk_42 (dk_at dksX2_append_4 14 rfl rfl)
theorem dX2_append_106 : decode cX2_append 106 = .ok (.getfield 3, 3) := dk_180 0 3 (dk_at dksX2_append_4 15 rfl rfl)
theorem dX2_append_109 : decode cX2_append 109 = .ok (.new 285, 3) := dk_187 1 29 (dk_at dksX2_append_4 18 rfl rfl)
theorem dX2_append_112 : decode cX2_append 112 = .ok (.dup, 1) := dk_89 (dk_at dksX2_append_4 21 rfl rfl)
theorem dX2_append_113 : decode cX2_append 113 = .ok (.aload_n 0, 1) := dk_42 (dk_at dksX2_append_4 22 rfl rfl)
theorem dX2_append_114 : decode cX2_append 114 = .ok (.getfield 3, 3) := dk_180 0 3 (dk_at dksX2_append_5 0 rfl rfl)
theorem dX2_append_117 : decode cX2_append 117 = .ok (.invokevirtual 207, 3) := dk_182 0 207 (dk_at dksX2_append_5 3 rfl rfl)
theorem dX2_append_120 : decode cX2_append 120 = .ok (.aload_n 0, 1) := dk_42 (dk_at dksX2_append_5 6 rfl rfl)
theorem dX2_append_121 : decode cX2_append 121 = .ok (.getfield 60, 3) := dk_180 0 60 (dk_at dksX2_append_5 7 rfl rfl)
theorem dX2_append_124 : decode cX2_append 124 = .ok (.aload_n 1, 1) := dk_43 (dk_at dksX2_append_5 10 rfl rfl)
theorem dX2_append_125 : decode cX2_append 125 = .ok (.getfield 324, 3) := dk_180 1 68 (dk_at dksX2_append_5 11 rfl rfl)
theorem dX2_append_128 : decode cX2_append 128 = .ok (.aload_n 0, 1) := dk_42 (dk_at dksX2_append_5 14 rfl rfl)
theorem dX2_append_129 : decode cX2_append 129 = .ok (.getfield 143, 3) := dk_180 0 143 (dk_at dksX2_append_5 15 rfl rfl)
theorem dX2_append_132 : decode cX2_append 132 = .ok (.aload_n 1, 1) := dk_43 (dk_at dksX2_append_5 18 rfl rfl)
theorem dX2_append_133 : decode cX2_append 133 = .ok (.getfield 325, 3) := dk_180 1 69 (dk_at dksX2_append_5 19 rfl rfl)
theorem dX2_append_136 : decode cX2_append 136 = .ok (.iload_n 2, 1) := dk_28 (dk_at dksX2_append_5 22 rfl rfl)
theorem dX2_append_137 : decode cX2_append 137 = .ok (.iload_n 3, 1) := dk_29 (dk_at dksX2_append_5 23 rfl rfl)
theorem dX2_append_138 : decode cX2_append 138 = .ok (.invokespecial 287, 3) := dk_183 1 31 (dk_at dksX2_append_6 0 rfl rfl)
theorem dX2_append_141 : decode cX2_append 141 = .ok (.invokevirtual 217, 3) := dk_182 0 217 (dk_at dksX2_append_6 3 rfl rfl)
theorem dX2_append_144 : decode cX2_append 144 = .ok (.goto 47, 3) := dk_167 0 47 (dk_at dksX2_append_6 6 rfl rfl)
theorem dX2_append_147 : decode cX2_append 147 = .ok (.astore 5, 2) := dk_58 5 (dk_at dksX2_append_6 9 rfl rfl)
theorem dX2_append_149 : decode cX2_append 149 = .ok (.aload_n 0, 1) := dk_42 (dk_at dksX2_append_6 11 rfl rfl)
theorem dX2_append_150 : decode cX2_append 150 = .ok (.getfield 3, 3) := dk_180 0 3 (dk_at dksX2_append_6 12 rfl rfl)
theorem dX2_append_153 : decode cX2_append 153 = .ok (.new 285, 3) := dk_187 1 29 (dk_at dksX2_append_6 15 rfl rfl)
theorem dX2_append_156 : decode cX2_append 156 = .ok (.dup, 1) := dk_89 (dk_at dksX2_append_6 18 rfl rfl)
theorem dX2_append_157 : decode cX2_append 157 = .ok (.aload_n 0, 1) := dk_42 (dk_at dksX2_append_6 19 rfl rfl)
theorem dX2_append_158 : decode cX2_append 158 = .ok (.getfield 3, 3) := dk_180 0 3 (dk_at dksX2_append_6 20 rfl rfl)
theorem dX2_append_161 : decode cX2_append 161 = .ok (.invokevirtual 207, 3) := dk_182 0 207 (dk_at dksX2_append_7 0 rfl rfl)
theorem dX2_append_164 : decode cX2_append 164 = .ok (.aload_n 0, 1) := dk_42 (dk_at dksX2_append_7 3 rfl rfl)
theorem dX2_append_165 : decode cX2_append 165 = .ok (.getfield 60, 3) := dk_180 0 60 (dk_at dksX2_append_7 4 rfl rfl)
theorem dX2_append_168 : decode cX2_append 168 = .ok (.aload_n 1, 1) := dk_43 (dk_at dksX2_append_7 7 rfl rfl)
theorem dX2_append_169 : decode cX2_append 169 = .ok (.getfield 324, 3) := dk_180 1 68 (dk_at dksX2_append_7 8 rfl rfl)
theorem dX2_append_172 : decode cX2_append 172 = .ok (.aload_n 0, 1) := dk_42 (dk_at dksX2_append_7 11 rfl rfl)
theorem dX2_append_173 : decode cX2_append 173 = .ok (.getfield 143, 3) := dk_180 0 143 (dk_at dksX2_append_7 12 rfl rfl)
theorem dX2_append_176 : decode cX2_append 176 = .ok (.aload_n 1, 1) := dk_43 (dk_at dksX2_append_7 15 rfl rfl)
theorem dX2_append_177 : decode cX2_append 177 = .ok (.getfield 325, 3) := dk_180 1 69 (dk_at dksX2_append_7 16 rfl rfl)
theorem dX2_append_180 : decode cX2_append 180 = .ok (.iload_n 2, 1) := dk_28 (dk_at dksX2_append_7 19 rfl rfl)
theorem dX2_append_181 : decode cX2_append 181 = .ok (.iload_n 3, 1) := dk_29 (dk_at dksX2_append_7 20 rfl rfl)
theorem dX2_append_182 : decode cX2_append 182 = .ok (.invokespecial 287, 3) := dk_183 1 31 (dk_at dksX2_append_7 21 rfl rfl)
theorem dX2_append_185 : decode cX2_append 185 = .ok (.invokevirtual 217, 3) := dk_182 0 217 (dk_at dksX2_append_8 0 rfl rfl)
theorem dX2_append_188 : decode cX2_append 188 = .ok (.aload 5, 2) := dk_25 5 (dk_at dksX2_append_8 3 rfl rfl)
theorem dX2_append_190 : decode cX2_append 190 = .ok (.athrow, 1) := dk_191 (dk_at dksX2_append_8 5 rfl rfl)
theorem dX2_append_191 : decode cX2_append 191 = .ok (.return_, 1) := dk_177 (dk_at dksX2_append_8 6 rfl rfl)
abbrev cX2_check : ByteArray := prog_9_method_22_code
def yX2_check : MethodName := ⟨RX2, "check", "(LQuorumAlmanac$Append;)V"⟩
def dkwX2_check_3 : List UInt8 := [191, 167, 0, 14, 78, 187, 1, 37, 89, 28, 45, 183, 1, 42, 191, 177]
abbrev dktX2_check_3 : List UInt8 := dkwX2_check_3 ++ []
def dkwX2_check_2 : List UInt8 := [182, 0, 210, 43, 180, 1, 45, 159, 0, 18, 43, 180, 1, 34, 4, 100, 61, 187, 1, 48, 89, 183, 1, 50]
abbrev dktX2_check_2 : List UInt8 := dkwX2_check_2 ++ dktX2_check_3
def dkwX2_check_1 : List UInt8 := [180, 0, 72, 187, 1, 39, 89, 183, 1, 41, 183, 1, 42, 191, 42, 182, 0, 79, 61, 42, 43, 180, 1, 34]
abbrev dktX2_check_1 : List UInt8 := dkwX2_check_1 ++ dktX2_check_2
def dkwX2_check_0 : List UInt8 := [43, 180, 1, 34, 42, 180, 0, 68, 180, 0, 72, 162, 0, 25, 187, 1, 37, 89, 42, 180, 0, 68]
abbrev dktX2_check_0 : List UInt8 := dkwX2_check_0 ++ dktX2_check_1
theorem dksX2_check_0 : cX2_check.data.toList.drop 0 = dktX2_check_0 := by decide +kernel
theorem dksX2_check_1 : cX2_check.data.toList.drop 22 = dktX2_check_1 := dk_seg dksX2_check_0 22 rfl rfl
theorem dksX2_check_2 : cX2_check.data.toList.drop 46 = dktX2_check_2 := dk_seg dksX2_check_1 24 rfl rfl
theorem dksX2_check_3 : cX2_check.data.toList.drop 70 = dktX2_check_3 := dk_seg dksX2_check_2 24 rfl rfl
theorem dX2_check_0 : decode cX2_check 0 = .ok (.aload_n 1, 1) := dk_43 (dk_at dksX2_check_0 0 rfl rfl)
theorem dX2_check_1 : decode cX2_check 1 = .ok (.getfield 290, 3) := dk_180 1 34 (dk_at dksX2_check_0 1 rfl rfl)
theorem dX2_check_4 : decode cX2_check 4 = .ok (.aload_n 0, 1) := dk_42 (dk_at dksX2_check_0 4 rfl rfl)
theorem dX2_check_5 : decode cX2_check 5 = .ok (.getfield 68, 3) := dk_180 0 68 (dk_at dksX2_check_0 5 rfl rfl)
theorem dX2_check_8 : decode cX2_check 8 = .ok (.getfield 72, 3) := dk_180 0 72 (dk_at dksX2_check_0 8 rfl rfl)
theorem dX2_check_11 : decode cX2_check 11 = .ok (.if_icmp .ge 25, 3) := dk_162 0 25 (dk_at dksX2_check_0 11 rfl rfl)
theorem dX2_check_14 : decode cX2_check 14 = .ok (.new 293, 3) := dk_187 1 37 (dk_at dksX2_check_0 14 rfl rfl)
theorem dX2_check_17 : decode cX2_check 17 = .ok (.dup, 1) := dk_89 (dk_at dksX2_check_0 17 rfl rfl)
theorem dX2_check_18 : decode cX2_check 18 = .ok (.aload_n 0, 1) := dk_42 (dk_at dksX2_check_0 18 rfl rfl)
theorem dX2_check_19 : decode cX2_check 19 = .ok (.getfield 68, 3) := dk_180 0 68 (dk_at dksX2_check_0 19 rfl rfl)
theorem dX2_check_22 : decode cX2_check 22 = .ok (.getfield 72, 3) := dk_180 0 72 (dk_at dksX2_check_1 0 rfl rfl)
theorem dX2_check_25 : decode cX2_check 25 = .ok (.new 295, 3) := dk_187 1 39 (dk_at dksX2_check_1 3 rfl rfl)
theorem dX2_check_28 : decode cX2_check 28 = .ok (.dup, 1) := dk_89 (dk_at dksX2_check_1 6 rfl rfl)
theorem dX2_check_29 : decode cX2_check 29 = .ok (.invokespecial 297, 3) := dk_183 1 41 (dk_at dksX2_check_1 7 rfl rfl)
theorem dX2_check_32 : decode cX2_check 32 = .ok (.invokespecial 298, 3) := dk_183 1 42 (dk_at dksX2_check_1 10 rfl rfl)
theorem dX2_check_35 : decode cX2_check 35 = .ok (.athrow, 1) := dk_191 (dk_at dksX2_check_1 13 rfl rfl)
theorem dX2_check_36 : decode cX2_check 36 = .ok (.aload_n 0, 1) := dk_42 (dk_at dksX2_check_1 14 rfl rfl)
theorem dX2_check_37 : decode cX2_check 37 = .ok (.invokevirtual 79, 3) := dk_182 0 79 (dk_at dksX2_check_1 15 rfl rfl)
theorem dX2_check_40 : decode cX2_check 40 = .ok (.istore_n 2, 1) := dk_61 (dk_at dksX2_check_1 18 rfl rfl)
theorem dX2_check_41 : decode cX2_check 41 = .ok (.aload_n 0, 1) := dk_42 (dk_at dksX2_check_1 19 rfl rfl)
theorem dX2_check_42 : decode cX2_check 42 = .ok (.aload_n 1, 1) := dk_43 (dk_at dksX2_check_1 20 rfl rfl)
theorem dX2_check_43 : decode cX2_check 43 = .ok (.getfield 290, 3) := dk_180 1 34 (dk_at dksX2_check_1 21 rfl rfl)
theorem dX2_check_46 : decode cX2_check 46 = .ok (.invokevirtual 210, 3) := dk_182 0 210 (dk_at dksX2_check_2 0 rfl rfl)
theorem dX2_check_49 : decode cX2_check 49 = .ok (.aload_n 1, 1) := dk_43 (dk_at dksX2_check_2 3 rfl rfl)
theorem dX2_check_50 : decode cX2_check 50 = .ok (.getfield 301, 3) := dk_180 1 45 (dk_at dksX2_check_2 4 rfl rfl)
theorem dX2_check_53 : decode cX2_check 53 = .ok (.if_icmp .eq 18, 3) := dk_159 0 18 (dk_at dksX2_check_2 7 rfl rfl)
theorem dX2_check_56 : decode cX2_check 56 = .ok (.aload_n 1, 1) := dk_43 (dk_at dksX2_check_2 10 rfl rfl)
theorem dX2_check_57 : decode cX2_check 57 = .ok (.getfield 290, 3) := dk_180 1 34 (dk_at dksX2_check_2 11 rfl rfl)
theorem dX2_check_60 : decode cX2_check 60 = .ok (.iconst 1, 1) := dk_4 (dk_at dksX2_check_2 14 rfl rfl)
theorem dX2_check_61 : decode cX2_check 61 = .ok (.isub, 1) := dk_100 (dk_at dksX2_check_2 15 rfl rfl)
theorem dX2_check_62 : decode cX2_check 62 = .ok (.istore_n 2, 1) := dk_61 (dk_at dksX2_check_2 16 rfl rfl)
theorem dX2_check_63 : decode cX2_check 63 = .ok (.new 304, 3) := dk_187 1 48 (dk_at dksX2_check_2 17 rfl rfl)
theorem dX2_check_66 : decode cX2_check 66 = .ok (.dup, 1) := dk_89 (dk_at dksX2_check_2 20 rfl rfl)
theorem dX2_check_67 : decode cX2_check 67 = .ok (.invokespecial 306, 3) := dk_183 1 50 (dk_at dksX2_check_2 21 rfl rfl)
theorem dX2_check_70 : decode cX2_check 70 = .ok (.athrow, 1) := dk_191 (dk_at dksX2_check_3 0 rfl rfl)
theorem dX2_check_71 : decode cX2_check 71 = .ok (.goto 14, 3) := dk_167 0 14 (dk_at dksX2_check_3 1 rfl rfl)
theorem dX2_check_74 : decode cX2_check 74 = .ok (.astore_n 3, 1) := dk_78 (dk_at dksX2_check_3 4 rfl rfl)
theorem dX2_check_75 : decode cX2_check 75 = .ok (.new 293, 3) := dk_187 1 37 (dk_at dksX2_check_3 5 rfl rfl)
theorem dX2_check_78 : decode cX2_check 78 = .ok (.dup, 1) := dk_89 (dk_at dksX2_check_3 8 rfl rfl)
theorem dX2_check_79 : decode cX2_check 79 = .ok (.iload_n 2, 1) := dk_28 (dk_at dksX2_check_3 9 rfl rfl)
theorem dX2_check_80 : decode cX2_check 80 = .ok (.aload_n 3, 1) := dk_45 (dk_at dksX2_check_3 10 rfl rfl)
theorem dX2_check_81 : decode cX2_check 81 = .ok (.invokespecial 298, 3) := dk_183 1 42 (dk_at dksX2_check_3 11 rfl rfl)
theorem dX2_check_84 : decode cX2_check 84 = .ok (.athrow, 1) := dk_191 (dk_at dksX2_check_3 14 rfl rfl)
theorem dX2_check_85 : decode cX2_check 85 = .ok (.return_, 1) := dk_177 (dk_at dksX2_check_3 15 rfl rfl)
abbrev cX2_add : ByteArray := prog_9_method_24_code
def yX2_add : MethodName := ⟨RX2, "add", "(LQuorumAlmanac$Append;)V"⟩
def dkwX2_add_4 : List UInt8 := [184, 1, 83, 181, 0, 180, 42, 43, 180, 1, 86, 28, 184, 1, 62, 182, 1, 87, 177]
abbrev dktX2_add_4 : List UInt8 := dkwX2_add_4 ++ []
def dkwX2_add_3 : List UInt8 := [154, 0, 13, 42, 180, 0, 33, 25, 4, 182, 0, 150, 87, 167, 255, 186, 42, 42, 180, 0, 180, 28]
abbrev dktX2_add_3 : List UInt8 := dkwX2_add_3 ++ dktX2_add_4
def dkwX2_add_2 : List UInt8 := [182, 0, 91, 180, 0, 95, 25, 4, 180, 0, 95, 159, 0, 8, 42, 28, 182, 1, 80, 42, 28, 182, 0, 132]
abbrev dktX2_add_2 : List UInt8 := dkwX2_add_2 ++ dktX2_add_3
def dkwX2_add_1 : List UInt8 := [185, 0, 166, 1, 0, 192, 0, 86, 58, 4, 132, 2, 1, 42, 28, 182, 0, 132, 153, 0, 24, 42, 28]
abbrev dktX2_add_1 : List UInt8 := dkwX2_add_1 ++ dktX2_add_2
def dkwX2_add_0 : List UInt8 := [43, 180, 1, 34, 61, 43, 180, 1, 77, 182, 0, 157, 78, 45, 185, 0, 161, 1, 0, 153, 0, 67, 45]
abbrev dktX2_add_0 : List UInt8 := dkwX2_add_0 ++ dktX2_add_1
theorem dksX2_add_0 : cX2_add.data.toList.drop 0 = dktX2_add_0 := by decide +kernel
theorem dksX2_add_1 : cX2_add.data.toList.drop 23 = dktX2_add_1 := dk_seg dksX2_add_0 23 rfl rfl
theorem dksX2_add_2 : cX2_add.data.toList.drop 46 = dktX2_add_2 := dk_seg dksX2_add_1 23 rfl rfl
theorem dksX2_add_3 : cX2_add.data.toList.drop 70 = dktX2_add_3 := dk_seg dksX2_add_2 24 rfl rfl
theorem dksX2_add_4 : cX2_add.data.toList.drop 92 = dktX2_add_4 := dk_seg dksX2_add_3 22 rfl rfl
theorem dX2_add_0 : decode cX2_add 0 = .ok (.aload_n 1, 1) := dk_43 (dk_at dksX2_add_0 0 rfl rfl)
theorem dX2_add_1 : decode cX2_add 1 = .ok (.getfield 290, 3) := dk_180 1 34 (dk_at dksX2_add_0 1 rfl rfl)
theorem dX2_add_4 : decode cX2_add 4 = .ok (.istore_n 2, 1) := dk_61 (dk_at dksX2_add_0 4 rfl rfl)
theorem dX2_add_5 : decode cX2_add 5 = .ok (.aload_n 1, 1) := dk_43 (dk_at dksX2_add_0 5 rfl rfl)
theorem dX2_add_6 : decode cX2_add 6 = .ok (.getfield 333, 3) := dk_180 1 77 (dk_at dksX2_add_0 6 rfl rfl)
theorem dX2_add_9 : decode cX2_add 9 = .ok (.invokevirtual 157, 3) := dk_182 0 157 (dk_at dksX2_add_0 9 rfl rfl)
theorem dX2_add_12 : decode cX2_add 12 = .ok (.astore_n 3, 1) := dk_78 (dk_at dksX2_add_0 12 rfl rfl)
theorem dX2_add_13 : decode cX2_add 13 = .ok (.aload_n 3, 1) := dk_45 (dk_at dksX2_add_0 13 rfl rfl)
theorem dX2_add_14 : decode cX2_add 14 = .ok (.invokeinterface 161 1, 5) := by decide +kernel
theorem dX2_add_19 : decode cX2_add 19 = .ok (.ifCond .eq 67, 3) := dk_153 0 67 (dk_at dksX2_add_0 19 rfl rfl)
theorem dX2_add_22 : decode cX2_add 22 = .ok (.aload_n 3, 1) := dk_45 (dk_at dksX2_add_0 22 rfl rfl)
theorem dX2_add_23 : decode cX2_add 23 = .ok (.invokeinterface 166 1, 5) := by decide +kernel
theorem dX2_add_28 : decode cX2_add 28 = .ok (.checkcast 86, 3) := dk_192 0 86 (dk_at dksX2_add_1 5 rfl rfl)
theorem dX2_add_31 : decode cX2_add 31 = .ok (.astore 4, 2) := dk_58 4 (dk_at dksX2_add_1 8 rfl rfl)
theorem dX2_add_33 : decode cX2_add 33 = .ok (.iinc 2 1, 3) := dk_132 2 1 (dk_at dksX2_add_1 10 rfl rfl)
theorem dX2_add_36 : decode cX2_add 36 = .ok (.aload_n 0, 1) := dk_42 (dk_at dksX2_add_1 13 rfl rfl)
theorem dX2_add_37 : decode cX2_add 37 = .ok (.iload_n 2, 1) := dk_28 (dk_at dksX2_add_1 14 rfl rfl)
theorem dX2_add_38 : decode cX2_add 38 = .ok (.invokevirtual 132, 3) := dk_182 0 132 (dk_at dksX2_add_1 15 rfl rfl)
theorem dX2_add_41 : decode cX2_add 41 = .ok (.ifCond .eq 24, 3) := dk_153 0 24 (dk_at dksX2_add_1 18 rfl rfl)
theorem dX2_add_44 : decode cX2_add 44 = .ok (.aload_n 0, 1) := dk_42 (dk_at dksX2_add_1 21 rfl rfl)
theorem dX2_add_45 : decode cX2_add 45 = .ok (.iload_n 2, 1) := dk_28 (dk_at dksX2_add_1 22 rfl rfl)
theorem dX2_add_46 : decode cX2_add 46 = .ok (.invokevirtual 91, 3) := dk_182 0 91 (dk_at dksX2_add_2 0 rfl rfl)
theorem dX2_add_49 : decode cX2_add 49 = .ok (.getfield 95, 3) := dk_180 0 95 (dk_at dksX2_add_2 3 rfl rfl)
theorem dX2_add_52 : decode cX2_add 52 = .ok (.aload 4, 2) := dk_25 4 (dk_at dksX2_add_2 6 rfl rfl)
theorem dX2_add_54 : decode cX2_add 54 = .ok (.getfield 95, 3) := dk_180 0 95 (dk_at dksX2_add_2 8 rfl rfl)
theorem dX2_add_57 : decode cX2_add 57 = .ok (.if_icmp .eq 8, 3) := dk_159 0 8 (dk_at dksX2_add_2 11 rfl rfl)
theorem dX2_add_60 : decode cX2_add 60 = .ok (.aload_n 0, 1) := dk_42 (dk_at dksX2_add_2 14 rfl rfl)
theorem dX2_add_61 : decode cX2_add 61 = .ok (.iload_n 2, 1) := dk_28 (dk_at dksX2_add_2 15 rfl rfl)
theorem dX2_add_62 : decode cX2_add 62 = .ok (.invokevirtual 336, 3) := dk_182 1 80 (dk_at dksX2_add_2 16 rfl rfl)
theorem dX2_add_65 : decode cX2_add 65 = .ok (.aload_n 0, 1) := dk_42 (dk_at dksX2_add_2 19 rfl rfl)
theorem dX2_add_66 : decode cX2_add 66 = .ok (.iload_n 2, 1) := dk_28 (dk_at dksX2_add_2 20 rfl rfl)
theorem dX2_add_67 : decode cX2_add 67 = .ok (.invokevirtual 132, 3) := dk_182 0 132 (dk_at dksX2_add_2 21 rfl rfl)
theorem dX2_add_70 : decode cX2_add 70 = .ok (.ifCond .ne 13, 3) := dk_154 0 13 (dk_at dksX2_add_3 0 rfl rfl)
theorem dX2_add_73 : decode cX2_add 73 = .ok (.aload_n 0, 1) := dk_42 (dk_at dksX2_add_3 3 rfl rfl)
theorem dX2_add_74 : decode cX2_add 74 = .ok (.getfield 33, 3) := dk_180 0 33 (dk_at dksX2_add_3 4 rfl rfl)
theorem dX2_add_77 : decode cX2_add 77 = .ok (.aload 4, 2) := dk_25 4 (dk_at dksX2_add_3 7 rfl rfl)
theorem dX2_add_79 : decode cX2_add 79 = .ok (.invokevirtual 150, 3) := dk_182 0 150 (dk_at dksX2_add_3 9 rfl rfl)
theorem dX2_add_82 : decode cX2_add 82 = .ok (.pop, 1) := dk_87 (dk_at dksX2_add_3 12 rfl rfl)
theorem dX2_add_83 : decode cX2_add 83 = .ok (.goto (-70), 3) := dk_167 255 186 (dk_at dksX2_add_3 13 rfl rfl)
theorem dX2_add_86 : decode cX2_add 86 = .ok (.aload_n 0, 1) := dk_42 (dk_at dksX2_add_3 16 rfl rfl)
theorem dX2_add_87 : decode cX2_add 87 = .ok (.aload_n 0, 1) := dk_42 (dk_at dksX2_add_3 17 rfl rfl)
theorem dX2_add_88 : decode cX2_add 88 = .ok (.getfield 180, 3) := dk_180 0 180 (dk_at dksX2_add_3 18 rfl rfl)
theorem dX2_add_91 : decode cX2_add 91 = .ok (.iload_n 2, 1) := dk_28 (dk_at dksX2_add_3 21 rfl rfl)
theorem dX2_add_92 : decode cX2_add 92 = .ok (.invokestatic 339, 3) := dk_184 1 83 (dk_at dksX2_add_4 0 rfl rfl)
theorem dX2_add_95 : decode cX2_add 95 = .ok (.putfield 180, 3) := dk_181 0 180 (dk_at dksX2_add_4 3 rfl rfl)
theorem dX2_add_98 : decode cX2_add 98 = .ok (.aload_n 0, 1) := dk_42 (dk_at dksX2_add_4 6 rfl rfl)
theorem dX2_add_99 : decode cX2_add 99 = .ok (.aload_n 1, 1) := dk_43 (dk_at dksX2_add_4 7 rfl rfl)
theorem dX2_add_100 : decode cX2_add 100 = .ok (.getfield 342, 3) := dk_180 1 86 (dk_at dksX2_add_4 8 rfl rfl)
theorem dX2_add_103 : decode cX2_add 103 = .ok (.iload_n 2, 1) := dk_28 (dk_at dksX2_add_4 11 rfl rfl)
theorem dX2_add_104 : decode cX2_add 104 = .ok (.invokestatic 318, 3) := dk_184 1 62 (dk_at dksX2_add_4 12 rfl rfl)
theorem dX2_add_107 : decode cX2_add 107 = .ok (.invokevirtual 343, 3) := dk_182 1 87 (dk_at dksX2_add_4 15 rfl rfl)
theorem dX2_add_110 : decode cX2_add 110 = .ok (.return_, 1) := dk_177 (dk_at dksX2_add_4 18 rfl rfl)
abbrev cX2_install : ByteArray := prog_9_method_26_code
def yX2_install : MethodName := ⟨RX2, "install", "(LQuorumAlmanac$Install;)V"⟩
def dkwX2_install_5 : List UInt8 := [182, 0, 217, 177]
abbrev dktX2_install_5 : List UInt8 := dkwX2_install_5 ++ []
def dkwX2_install_4 : List UInt8 := [180, 0, 143, 43, 180, 1, 100, 16, 97, 42, 180, 0, 180, 42, 180, 1, 59, 184, 1, 62, 183, 1, 31]
abbrev dktX2_install_4 : List UInt8 := dkwX2_install_4 ++ dktX2_install_5
def dkwX2_install_3 : List UInt8 := [42, 180, 0, 3, 187, 1, 29, 89, 42, 180, 0, 3, 182, 0, 207, 42, 180, 0, 60, 43, 180, 1, 99, 42]
abbrev dktX2_install_3 : List UInt8 := dkwX2_install_3 ++ dktX2_install_4
def dkwX2_install_2 : List UInt8 := [180, 1, 94, 182, 1, 95, 181, 0, 40, 42, 42, 180, 0, 180, 44, 180, 0, 72, 184, 1, 83, 181, 0, 180]
abbrev dktX2_install_2 : List UInt8 := dkwX2_install_2 ++ dktX2_install_3
def dkwX2_install_1 : List UInt8 := [44, 181, 0, 68, 42, 44, 180, 0, 72, 181, 1, 59, 42, 44, 180, 0, 72, 181, 0, 114, 42, 44]
abbrev dktX2_install_1 : List UInt8 := dkwX2_install_1 ++ dktX2_install_2
def dkwX2_install_0 : List UInt8 := [43, 180, 1, 93, 77, 44, 180, 0, 72, 42, 180, 0, 114, 164, 0, 42, 42, 180, 0, 33, 182, 0, 227, 42]
abbrev dktX2_install_0 : List UInt8 := dkwX2_install_0 ++ dktX2_install_1
theorem dksX2_install_0 : cX2_install.data.toList.drop 0 = dktX2_install_0 := by decide +kernel
theorem dksX2_install_1 : cX2_install.data.toList.drop 24 = dktX2_install_1 := dk_seg dksX2_install_0 24 rfl rfl
theorem dksX2_install_2 : cX2_install.data.toList.drop 46 = dktX2_install_2 := dk_seg dksX2_install_1 22 rfl rfl
theorem dksX2_install_3 : cX2_install.data.toList.drop 70 = dktX2_install_3 := dk_seg dksX2_install_2 24 rfl rfl
theorem dksX2_install_4 : cX2_install.data.toList.drop 94 = dktX2_install_4 := dk_seg dksX2_install_3 24 rfl rfl
theorem dksX2_install_5 : cX2_install.data.toList.drop 117 = dktX2_install_5 := dk_seg dksX2_install_4 23 rfl rfl
theorem dX2_install_0 : decode cX2_install 0 = .ok (.aload_n 1, 1) := dk_43 (dk_at dksX2_install_0 0 rfl rfl)
theorem dX2_install_1 : decode cX2_install 1 = .ok (.getfield 349, 3) := dk_180 1 93 (dk_at dksX2_install_0 1 rfl rfl)
theorem dX2_install_4 : decode cX2_install 4 = .ok (.astore_n 2, 1) := dk_77 (dk_at dksX2_install_0 4 rfl rfl)
theorem dX2_install_5 : decode cX2_install 5 = .ok (.aload_n 2, 1) := dk_44 (dk_at dksX2_install_0 5 rfl rfl)
theorem dX2_install_6 : decode cX2_install 6 = .ok (.getfield 72, 3) := dk_180 0 72 (dk_at dksX2_install_0 6 rfl rfl)
theorem dX2_install_9 : decode cX2_install 9 = .ok (.aload_n 0, 1) := dk_42 (dk_at dksX2_install_0 9 rfl rfl)
theorem dX2_install_10 : decode cX2_install 10 = .ok (.getfield 114, 3) := dk_180 0 114 (dk_at dksX2_install_0 10 rfl rfl)
theorem dX2_install_13 : decode cX2_install 13 = .ok (.if_icmp .le 42, 3) := dk_164 0 42 (dk_at dksX2_install_0 13 rfl rfl)
theorem dX2_install_16 : decode cX2_install 16 = .ok (.aload_n 0, 1) := dk_42 (dk_at dksX2_install_0 16 rfl rfl)
theorem dX2_install_17 : decode cX2_install 17 = .ok (.getfield 33, 3) := dk_180 0 33 (dk_at dksX2_install_0 17 rfl rfl)
theorem dX2_install_20 : decode cX2_install 20 = .ok (.invokevirtual 227, 3) := dk_182 0 227 (dk_at dksX2_install_0 20 rfl rfl)
theorem dX2_install_23 : decode cX2_install 23 = .ok (.aload_n 0, 1) := dk_42 (dk_at dksX2_install_0 23 rfl rfl)
theorem dX2_install_24 : decode cX2_install 24 = .ok (.aload_n 2, 1) := dk_44 (dk_at dksX2_install_1 0 rfl rfl)
theorem dX2_install_25 : decode cX2_install 25 = .ok (.putfield 68, 3) := dk_181 0 68 (dk_at dksX2_install_1 1 rfl rfl)
theorem dX2_install_28 : decode cX2_install 28 = .ok (.aload_n 0, 1) := dk_42 (dk_at dksX2_install_1 4 rfl rfl)
theorem dX2_install_29 : decode cX2_install 29 = .ok (.aload_n 2, 1) := dk_44 (dk_at dksX2_install_1 5 rfl rfl)
theorem dX2_install_30 : decode cX2_install 30 = .ok (.getfield 72, 3) := dk_180 0 72 (dk_at dksX2_install_1 6 rfl rfl)
theorem dX2_install_33 : decode cX2_install 33 = .ok (.putfield 315, 3) := dk_181 1 59 (dk_at dksX2_install_1 9 rfl rfl)
theorem dX2_install_36 : decode cX2_install 36 = .ok (.aload_n 0, 1) := dk_42 (dk_at dksX2_install_1 12 rfl rfl)
theorem dX2_install_37 : decode cX2_install 37 = .ok (.aload_n 2, 1) := dk_44 (dk_at dksX2_install_1 13 rfl rfl)
theorem dX2_install_38 : decode cX2_install 38 = .ok (.getfield 72, 3) := dk_180 0 72 (dk_at dksX2_install_1 14 rfl rfl)
theorem dX2_install_41 : decode cX2_install 41 = .ok (.putfield 114, 3) := dk_181 0 114 (dk_at dksX2_install_1 17 rfl rfl)
theorem dX2_install_44 : decode cX2_install 44 = .ok (.aload_n 0, 1) := dk_42 (dk_at dksX2_install_1 20 rfl rfl)
theorem dX2_install_45 : decode cX2_install 45 = .ok (.aload_n 2, 1) := dk_44 (dk_at dksX2_install_1 21 rfl rfl)
theorem dX2_install_46 : decode cX2_install 46 = .ok (.getfield 350, 3) := dk_180 1 94 (dk_at dksX2_install_2 0 rfl rfl)
theorem dX2_install_49 : decode cX2_install 49 = .ok (.invokevirtual 351, 3) := dk_182 1 95 (dk_at dksX2_install_2 3 rfl rfl)
theorem dX2_install_52 : decode cX2_install 52 = .ok (.putfield 40, 3) := dk_181 0 40 (dk_at dksX2_install_2 6 rfl rfl)
theorem dX2_install_55 : decode cX2_install 55 = .ok (.aload_n 0, 1) := dk_42 (dk_at dksX2_install_2 9 rfl rfl)
theorem dX2_install_56 : decode cX2_install 56 = .ok (.aload_n 0, 1) := dk_42 (dk_at dksX2_install_2 10 rfl rfl)
theorem dX2_install_57 : decode cX2_install 57 = .ok (.getfield 180, 3) := dk_180 0 180 (dk_at dksX2_install_2 11 rfl rfl)
theorem dX2_install_60 : decode cX2_install 60 = .ok (.aload_n 2, 1) := dk_44 (dk_at dksX2_install_2 14 rfl rfl)
theorem dX2_install_61 : decode cX2_install 61 = .ok (.getfield 72, 3) := dk_180 0 72 (dk_at dksX2_install_2 15 rfl rfl)
theorem dX2_install_64 : decode cX2_install 64 = .ok (.invokestatic 339, 3) := dk_184 1 83 (dk_at dksX2_install_2 18 rfl rfl)
theorem dX2_install_67 : decode cX2_install 67 = .ok (.putfield 180, 3) := dk_181 0 180 (dk_at dksX2_install_2 21 rfl rfl)
theorem dX2_install_70 : decode cX2_install 70 = .ok (.aload_n 0, 1) := dk_42 (dk_at dksX2_install_3 0 rfl rfl)
theorem dX2_install_71 : decode cX2_install 71 = .ok (.getfield 3, 3) := dk_180 0 3 (dk_at dksX2_install_3 1 rfl rfl)
theorem dX2_install_74 : decode cX2_install 74 = .ok (.new 285, 3) := dk_187 1 29 (dk_at dksX2_install_3 4 rfl rfl)
theorem dX2_install_77 : decode cX2_install 77 = .ok (.dup, 1) := dk_89 (dk_at dksX2_install_3 7 rfl rfl)
theorem dX2_install_78 : decode cX2_install 78 = .ok (.aload_n 0, 1) := dk_42 (dk_at dksX2_install_3 8 rfl rfl)
theorem dX2_install_79 : decode cX2_install 79 = .ok (.getfield 3, 3) := dk_180 0 3 (dk_at dksX2_install_3 9 rfl rfl)
theorem dX2_install_82 : decode cX2_install 82 = .ok (.invokevirtual 207, 3) := dk_182 0 207 (dk_at dksX2_install_3 12 rfl rfl)
theorem dX2_install_85 : decode cX2_install 85 = .ok (.aload_n 0, 1) := dk_42 (dk_at dksX2_install_3 15 rfl rfl)
theorem dX2_install_86 : decode cX2_install 86 = .ok (.getfield 60, 3) := dk_180 0 60 (dk_at dksX2_install_3 16 rfl rfl)
theorem dX2_install_89 : decode cX2_install 89 = .ok (.aload_n 1, 1) := dk_43 (dk_at dksX2_install_3 19 rfl rfl)
theorem dX2_install_90 : decode cX2_install 90 = .ok (.getfield 355, 3) := dk_180 1 99 (dk_at dksX2_install_3 20 rfl rfl)
theorem dX2_install_93 : decode cX2_install 93 = .ok (.aload_n 0, 1) := dk_42 (dk_at dksX2_install_3 23 rfl rfl)
theorem dX2_install_94 : decode cX2_install 94 = .ok (.getfield 143, 3) := dk_180 0 143 (dk_at dksX2_install_4 0 rfl rfl)
theorem dX2_install_97 : decode cX2_install 97 = .ok (.aload_n 1, 1) := dk_43 (dk_at dksX2_install_4 3 rfl rfl)
theorem dX2_install_98 : decode cX2_install 98 = .ok (.getfield 356, 3) := dk_180 1 100 (dk_at dksX2_install_4 4 rfl rfl)
theorem dX2_install_101 : decode cX2_install 101 = .ok (.bipush 97, 2) := dk_16 97 (dk_at dksX2_install_4 7 rfl rfl)
theorem dX2_install_103 : decode cX2_install 103 = .ok (.aload_n 0, 1) := dk_42 (dk_at dksX2_install_4 9 rfl rfl)
theorem dX2_install_104 : decode cX2_install 104 = .ok (.getfield 180, 3) := dk_180 0 180 (dk_at dksX2_install_4 10 rfl rfl)
theorem dX2_install_107 : decode cX2_install 107 = .ok (.aload_n 0, 1) := dk_42 (dk_at dksX2_install_4 13 rfl rfl)
theorem dX2_install_108 : decode cX2_install 108 = .ok (.getfield 315, 3) := dk_180 1 59 (dk_at dksX2_install_4 14 rfl rfl)
theorem dX2_install_111 : decode cX2_install 111 = .ok (.invokestatic 318, 3) := dk_184 1 62 (dk_at dksX2_install_4 17 rfl rfl)
theorem dX2_install_114 : decode cX2_install 114 = .ok (.invokespecial 287, 3) := dk_183 1 31 (dk_at dksX2_install_4 20 rfl rfl)
theorem dX2_install_117 : decode cX2_install 117 = .ok (.invokevirtual 217, 3) := dk_182 0 217 (dk_at dksX2_install_5 0 rfl rfl)
theorem dX2_install_120 : decode cX2_install 120 = .ok (.return_, 1) := dk_177 (dk_at dksX2_install_5 3 rfl rfl)
abbrev cX2_isBound : ByteArray := prog_9_method_13_code
def yX2_isBound : MethodName := ⟨RX2, "isBound", "()Z"⟩
def dkwX2_isBound_1 : List UInt8 := [167, 0, 4, 3, 172]
abbrev dktX2_isBound_1 : List UInt8 := dkwX2_isBound_1 ++ []
def dkwX2_isBound_0 : List UInt8 := [42, 180, 0, 186, 42, 180, 0, 27, 100, 16, 10, 161, 0, 10, 42, 182, 0, 189, 153, 0, 7, 4]
abbrev dktX2_isBound_0 : List UInt8 := dkwX2_isBound_0 ++ dktX2_isBound_1
theorem dksX2_isBound_0 : cX2_isBound.data.toList.drop 0 = dktX2_isBound_0 := by decide +kernel
theorem dksX2_isBound_1 : cX2_isBound.data.toList.drop 22 = dktX2_isBound_1 := dk_seg dksX2_isBound_0 22 rfl rfl
theorem dX2_isBound_0 : decode cX2_isBound 0 = .ok (.aload_n 0, 1) := dk_42 (dk_at dksX2_isBound_0 0 rfl rfl)
theorem dX2_isBound_1 : decode cX2_isBound 1 = .ok (.getfield 186, 3) := dk_180 0 186 (dk_at dksX2_isBound_0 1 rfl rfl)
theorem dX2_isBound_4 : decode cX2_isBound 4 = .ok (.aload_n 0, 1) := dk_42 (dk_at dksX2_isBound_0 4 rfl rfl)
theorem dX2_isBound_5 : decode cX2_isBound 5 = .ok (.getfield 27, 3) := dk_180 0 27 (dk_at dksX2_isBound_0 5 rfl rfl)
theorem dX2_isBound_8 : decode cX2_isBound 8 = .ok (.isub, 1) := dk_100 (dk_at dksX2_isBound_0 8 rfl rfl)
theorem dX2_isBound_9 : decode cX2_isBound 9 = .ok (.bipush 10, 2) := dk_16 10 (dk_at dksX2_isBound_0 9 rfl rfl)
theorem dX2_isBound_11 : decode cX2_isBound 11 = .ok (.if_icmp .lt 10, 3) := dk_161 0 10 (dk_at dksX2_isBound_0 11 rfl rfl)
theorem dX2_isBound_14 : decode cX2_isBound 14 = .ok (.aload_n 0, 1) := dk_42 (dk_at dksX2_isBound_0 14 rfl rfl)
theorem dX2_isBound_15 : decode cX2_isBound 15 = .ok (.invokevirtual 189, 3) := dk_182 0 189 (dk_at dksX2_isBound_0 15 rfl rfl)
theorem dX2_isBound_18 : decode cX2_isBound 18 = .ok (.ifCond .eq 7, 3) := dk_153 0 7 (dk_at dksX2_isBound_0 18 rfl rfl)
theorem dX2_isBound_21 : decode cX2_isBound 21 = .ok (.iconst 1, 1) := dk_4 (dk_at dksX2_isBound_0 21 rfl rfl)
theorem dX2_isBound_22 : decode cX2_isBound 22 = .ok (.goto 4, 3) := dk_167 0 4 (dk_at dksX2_isBound_1 0 rfl rfl)
theorem dX2_isBound_25 : decode cX2_isBound 25 = .ok (.iconst 0, 1) := dk_3 (dk_at dksX2_isBound_1 3 rfl rfl)
theorem dX2_isBound_26 : decode cX2_isBound 26 = .ok (.ireturn, 1) := dk_172 (dk_at dksX2_isBound_1 4 rfl rfl)
abbrev cX2_hasLease : ByteArray := prog_9_method_32_code
def yX2_hasLease : MethodName := ⟨RX2, "hasLease", "()Z"⟩
def dkwX2_hasLease_2 : List UInt8 := [192, 0, 248, 182, 0, 250, 100, 16, 6, 162, 0, 7, 4, 167, 0, 4, 3, 172]
abbrev dktX2_hasLease_2 : List UInt8 := dkwX2_hasLease_2 ++ []
def dkwX2_hasLease_1 : List UInt8 := [172, 42, 182, 1, 119, 60, 27, 158, 0, 33, 42, 180, 0, 186, 42, 180, 0, 57, 27, 4, 100, 182, 0, 82]
abbrev dktX2_hasLease_1 : List UInt8 := dkwX2_hasLease_1 ++ dktX2_hasLease_2
def dkwX2_hasLease_0 : List UInt8 := [42, 180, 0, 15, 153, 0, 19, 42, 180, 0, 19, 16, 108, 160, 0, 10, 42, 182, 1, 116, 154, 0, 5, 3]
abbrev dktX2_hasLease_0 : List UInt8 := dkwX2_hasLease_0 ++ dktX2_hasLease_1
theorem dksX2_hasLease_0 : cX2_hasLease.data.toList.drop 0 = dktX2_hasLease_0 := by decide +kernel
theorem dksX2_hasLease_1 : cX2_hasLease.data.toList.drop 24 = dktX2_hasLease_1 := dk_seg dksX2_hasLease_0 24 rfl rfl
theorem dksX2_hasLease_2 : cX2_hasLease.data.toList.drop 48 = dktX2_hasLease_2 := dk_seg dksX2_hasLease_1 24 rfl rfl
theorem dX2_hasLease_0 : decode cX2_hasLease 0 = .ok (.aload_n 0, 1) := dk_42 (dk_at dksX2_hasLease_0 0 rfl rfl)
theorem dX2_hasLease_1 : decode cX2_hasLease 1 = .ok (.getfield 15, 3) := dk_180 0 15 (dk_at dksX2_hasLease_0 1 rfl rfl)
theorem dX2_hasLease_4 : decode cX2_hasLease 4 = .ok (.ifCond .eq 19, 3) := dk_153 0 19 (dk_at dksX2_hasLease_0 4 rfl rfl)
theorem dX2_hasLease_7 : decode cX2_hasLease 7 = .ok (.aload_n 0, 1) := dk_42 (dk_at dksX2_hasLease_0 7 rfl rfl)
theorem dX2_hasLease_8 : decode cX2_hasLease 8 = .ok (.getfield 19, 3) := dk_180 0 19 (dk_at dksX2_hasLease_0 8 rfl rfl)
theorem dX2_hasLease_11 : decode cX2_hasLease 11 = .ok (.bipush 108, 2) := dk_16 108 (dk_at dksX2_hasLease_0 11 rfl rfl)
theorem dX2_hasLease_13 : decode cX2_hasLease 13 = .ok (.if_icmp .ne 10, 3) := dk_160 0 10 (dk_at dksX2_hasLease_0 13 rfl rfl)
theorem dX2_hasLease_16 : decode cX2_hasLease 16 = .ok (.aload_n 0, 1) := dk_42 (dk_at dksX2_hasLease_0 16 rfl rfl)
theorem dX2_hasLease_17 : decode cX2_hasLease 17 = .ok (.invokevirtual 372, 3) := dk_182 1 116 (dk_at dksX2_hasLease_0 17 rfl rfl)
theorem dX2_hasLease_20 : decode cX2_hasLease 20 = .ok (.ifCond .ne 5, 3) := dk_154 0 5 (dk_at dksX2_hasLease_0 20 rfl rfl)
theorem dX2_hasLease_23 : decode cX2_hasLease 23 = .ok (.iconst 0, 1) := dk_3 (dk_at dksX2_hasLease_0 23 rfl rfl)
theorem dX2_hasLease_24 : decode cX2_hasLease 24 = .ok (.ireturn, 1) := dk_172 (dk_at dksX2_hasLease_1 0 rfl rfl)
theorem dX2_hasLease_25 : decode cX2_hasLease 25 = .ok (.aload_n 0, 1) := dk_42 (dk_at dksX2_hasLease_1 1 rfl rfl)
theorem dX2_hasLease_26 : decode cX2_hasLease 26 = .ok (.invokevirtual 375, 3) := dk_182 1 119 (dk_at dksX2_hasLease_1 2 rfl rfl)
theorem dX2_hasLease_29 : decode cX2_hasLease 29 = .ok (.istore_n 1, 1) := dk_60 (dk_at dksX2_hasLease_1 5 rfl rfl)
theorem dX2_hasLease_30 : decode cX2_hasLease 30 = .ok (.iload_n 1, 1) := dk_27 (dk_at dksX2_hasLease_1 6 rfl rfl)
theorem dX2_hasLease_31 : decode cX2_hasLease 31 = .ok (.ifCond .le 33, 3) := dk_158 0 33 (dk_at dksX2_hasLease_1 7 rfl rfl)
theorem dX2_hasLease_34 : decode cX2_hasLease 34 = .ok (.aload_n 0, 1) := dk_42 (dk_at dksX2_hasLease_1 10 rfl rfl)
theorem dX2_hasLease_35 : decode cX2_hasLease 35 = .ok (.getfield 186, 3) := dk_180 0 186 (dk_at dksX2_hasLease_1 11 rfl rfl)
theorem dX2_hasLease_38 : decode cX2_hasLease 38 = .ok (.aload_n 0, 1) := dk_42 (dk_at dksX2_hasLease_1 14 rfl rfl)
theorem dX2_hasLease_39 : decode cX2_hasLease 39 = .ok (.getfield 57, 3) := dk_180 0 57 (dk_at dksX2_hasLease_1 15 rfl rfl)
theorem dX2_hasLease_42 : decode cX2_hasLease 42 = .ok (.iload_n 1, 1) := dk_27 (dk_at dksX2_hasLease_1 18 rfl rfl)
theorem dX2_hasLease_43 : decode cX2_hasLease 43 = .ok (.iconst 1, 1) := dk_4 (dk_at dksX2_hasLease_1 19 rfl rfl)
theorem dX2_hasLease_44 : decode cX2_hasLease 44 = .ok (.isub, 1) := dk_100 (dk_at dksX2_hasLease_1 20 rfl rfl)
theorem dX2_hasLease_45 : decode cX2_hasLease 45 = .ok (.invokevirtual 82, 3) := dk_182 0 82 (dk_at dksX2_hasLease_1 21 rfl rfl)
theorem dX2_hasLease_48 : decode cX2_hasLease 48 = .ok (.checkcast 248, 3) := dk_192 0 248 (dk_at dksX2_hasLease_2 0 rfl rfl)
theorem dX2_hasLease_51 : decode cX2_hasLease 51 = .ok (.invokevirtual 250, 3) := dk_182 0 250 (dk_at dksX2_hasLease_2 3 rfl rfl)
theorem dX2_hasLease_54 : decode cX2_hasLease 54 = .ok (.isub, 1) := dk_100 (dk_at dksX2_hasLease_2 6 rfl rfl)
theorem dX2_hasLease_55 : decode cX2_hasLease 55 = .ok (.bipush 6, 2) := dk_16 6 (dk_at dksX2_hasLease_2 7 rfl rfl)
theorem dX2_hasLease_57 : decode cX2_hasLease 57 = .ok (.if_icmp .ge 7, 3) := dk_162 0 7 (dk_at dksX2_hasLease_2 9 rfl rfl)
theorem dX2_hasLease_60 : decode cX2_hasLease 60 = .ok (.iconst 1, 1) := dk_4 (dk_at dksX2_hasLease_2 12 rfl rfl)
theorem dX2_hasLease_61 : decode cX2_hasLease 61 = .ok (.goto 4, 3) := dk_167 0 4 (dk_at dksX2_hasLease_2 13 rfl rfl)
theorem dX2_hasLease_64 : decode cX2_hasLease 64 = .ok (.iconst 0, 1) := dk_3 (dk_at dksX2_hasLease_2 16 rfl rfl)
theorem dX2_hasLease_65 : decode cX2_hasLease 65 = .ok (.ireturn, 1) := dk_172 (dk_at dksX2_hasLease_2 17 rfl rfl)
abbrev cX2_hasCommittedOwn : ByteArray := prog_9_method_31_code
def yX2_hasCommittedOwn : MethodName := ⟨RX2, "hasCommittedOwn", "()Z"⟩
def dkwX2_hasCommittedOwn_1 : List UInt8 := [167, 0, 4, 3, 172]
abbrev dktX2_hasCommittedOwn_1 : List UInt8 := dkwX2_hasCommittedOwn_1 ++ []
def dkwX2_hasCommittedOwn_0 : List UInt8 := [42, 180, 0, 114, 158, 0, 22, 42, 42, 180, 0, 114, 182, 0, 210, 42, 180, 0, 143, 160, 0, 7, 4]
abbrev dktX2_hasCommittedOwn_0 : List UInt8 := dkwX2_hasCommittedOwn_0 ++ dktX2_hasCommittedOwn_1
theorem dksX2_hasCommittedOwn_0 : cX2_hasCommittedOwn.data.toList.drop 0 = dktX2_hasCommittedOwn_0 := by decide +kernel
theorem dksX2_hasCommittedOwn_1 : cX2_hasCommittedOwn.data.toList.drop 23 = dktX2_hasCommittedOwn_1 := dk_seg dksX2_hasCommittedOwn_0 23 rfl rfl
theorem dX2_hasCommittedOwn_0 : decode cX2_hasCommittedOwn 0 = .ok (.aload_n 0, 1) := dk_42 (dk_at dksX2_hasCommittedOwn_0 0 rfl rfl)
theorem dX2_hasCommittedOwn_1 : decode cX2_hasCommittedOwn 1 = .ok (.getfield 114, 3) := dk_180 0 114 (dk_at dksX2_hasCommittedOwn_0 1 rfl rfl)
theorem dX2_hasCommittedOwn_4 : decode cX2_hasCommittedOwn 4 = .ok (.ifCond .le 22, 3) := dk_158 0 22 (dk_at dksX2_hasCommittedOwn_0 4 rfl rfl)
theorem dX2_hasCommittedOwn_7 : decode cX2_hasCommittedOwn 7 = .ok (.aload_n 0, 1) := dk_42 (dk_at dksX2_hasCommittedOwn_0 7 rfl rfl)
theorem dX2_hasCommittedOwn_8 : decode cX2_hasCommittedOwn 8 = .ok (.aload_n 0, 1) := dk_42 (dk_at dksX2_hasCommittedOwn_0 8 rfl rfl)
theorem dX2_hasCommittedOwn_9 : decode cX2_hasCommittedOwn 9 = .ok (.getfield 114, 3) := dk_180 0 114 (dk_at dksX2_hasCommittedOwn_0 9 rfl rfl)
theorem dX2_hasCommittedOwn_12 : decode cX2_hasCommittedOwn 12 = .ok (.invokevirtual 210, 3) := dk_182 0 210 (dk_at dksX2_hasCommittedOwn_0 12 rfl rfl)
theorem dX2_hasCommittedOwn_15 : decode cX2_hasCommittedOwn 15 = .ok (.aload_n 0, 1) := dk_42 (dk_at dksX2_hasCommittedOwn_0 15 rfl rfl)
theorem dX2_hasCommittedOwn_16 : decode cX2_hasCommittedOwn 16 = .ok (.getfield 143, 3) := dk_180 0 143 (dk_at dksX2_hasCommittedOwn_0 16 rfl rfl)
theorem dX2_hasCommittedOwn_19 : decode cX2_hasCommittedOwn 19 = .ok (.if_icmp .ne 7, 3) := dk_160 0 7 (dk_at dksX2_hasCommittedOwn_0 19 rfl rfl)
theorem dX2_hasCommittedOwn_22 : decode cX2_hasCommittedOwn 22 = .ok (.iconst 1, 1) := dk_4 (dk_at dksX2_hasCommittedOwn_0 22 rfl rfl)
theorem dX2_hasCommittedOwn_23 : decode cX2_hasCommittedOwn 23 = .ok (.goto 4, 3) := dk_167 0 4 (dk_at dksX2_hasCommittedOwn_1 0 rfl rfl)
theorem dX2_hasCommittedOwn_26 : decode cX2_hasCommittedOwn 26 = .ok (.iconst 0, 1) := dk_3 (dk_at dksX2_hasCommittedOwn_1 3 rfl rfl)
theorem dX2_hasCommittedOwn_27 : decode cX2_hasCommittedOwn 27 = .ok (.ireturn, 1) := dk_172 (dk_at dksX2_hasCommittedOwn_1 4 rfl rfl)
abbrev cX2_answerWish : ByteArray := prog_9_method_16_code
def yX2_answerWish : MethodName := ⟨RX2, "answerWish", "(LQuorumAlmanac$Wish;)V"⟩
def dkwX2_answerWish_6 : List UInt8 := [182, 0, 217, 177]
abbrev dktX2_answerWish_6 : List UInt8 := dkwX2_answerWish_6 ++ []
def dkwX2_answerWish_5 : List UInt8 := [180, 0, 3, 182, 0, 207, 42, 180, 0, 60, 43, 180, 0, 240, 42, 180, 0, 143, 29, 183, 0, 245]
abbrev dktX2_answerWish_5 : List UInt8 := dkwX2_answerWish_5 ++ dktX2_answerWish_6
def dkwX2_answerWish_4 : List UInt8 := [180, 0, 240, 181, 0, 23, 42, 42, 180, 0, 186, 181, 0, 199, 42, 180, 0, 3, 187, 0, 243, 89, 42]
abbrev dktX2_answerWish_4 : List UInt8 := dkwX2_answerWish_4 ++ dktX2_answerWish_5
def dkwX2_answerWish_3 : List UInt8 := [180, 0, 240, 160, 0, 11, 28, 154, 0, 7, 4, 167, 0, 4, 3, 62, 29, 153, 0, 19, 42, 43]
abbrev dktX2_answerWish_3 : List UInt8 := dkwX2_answerWish_3 ++ dktX2_answerWish_4
def dkwX2_answerWish_2 : List UInt8 := [180, 0, 239, 42, 180, 0, 143, 160, 0, 30, 42, 180, 0, 23, 2, 159, 0, 14, 42, 180, 0, 23, 43]
abbrev dktX2_answerWish_2 : List UInt8 := dkwX2_answerWish_2 ++ dktX2_answerWish_3
def dkwX2_answerWish_1 : List UInt8 := [182, 0, 210, 160, 0, 18, 43, 180, 0, 236, 42, 182, 0, 79, 162, 0, 7, 4, 167, 0, 4, 3, 61, 43]
abbrev dktX2_answerWish_1 : List UInt8 := dkwX2_answerWish_1 ++ dktX2_answerWish_2
def dkwX2_answerWish_0 : List UInt8 := [43, 180, 0, 233, 42, 42, 182, 0, 79, 182, 0, 210, 161, 0, 29, 43, 180, 0, 233, 42, 42, 182, 0, 79]
abbrev dktX2_answerWish_0 : List UInt8 := dkwX2_answerWish_0 ++ dktX2_answerWish_1
theorem dksX2_answerWish_0 : cX2_answerWish.data.toList.drop 0 = dktX2_answerWish_0 := by decide +kernel
theorem dksX2_answerWish_1 : cX2_answerWish.data.toList.drop 24 = dktX2_answerWish_1 := dk_seg dksX2_answerWish_0 24 rfl rfl
theorem dksX2_answerWish_2 : cX2_answerWish.data.toList.drop 48 = dktX2_answerWish_2 := dk_seg dksX2_answerWish_1 24 rfl rfl
theorem dksX2_answerWish_3 : cX2_answerWish.data.toList.drop 71 = dktX2_answerWish_3 := dk_seg dksX2_answerWish_2 23 rfl rfl
theorem dksX2_answerWish_4 : cX2_answerWish.data.toList.drop 93 = dktX2_answerWish_4 := dk_seg dksX2_answerWish_3 22 rfl rfl
theorem dksX2_answerWish_5 : cX2_answerWish.data.toList.drop 116 = dktX2_answerWish_5 := dk_seg dksX2_answerWish_4 23 rfl rfl
theorem dksX2_answerWish_6 : cX2_answerWish.data.toList.drop 138 = dktX2_answerWish_6 := dk_seg dksX2_answerWish_5 22 rfl rfl
theorem dX2_answerWish_0 : decode cX2_answerWish 0 = .ok (.aload_n 1, 1) := dk_43 (dk_at dksX2_answerWish_0 0 rfl rfl)
theorem dX2_answerWish_1 : decode cX2_answerWish 1 = .ok (.getfield 233, 3) := dk_180 0 233 (dk_at dksX2_answerWish_0 1 rfl rfl)
theorem dX2_answerWish_4 : decode cX2_answerWish 4 = .ok (.aload_n 0, 1) := dk_42 (dk_at dksX2_answerWish_0 4 rfl rfl)
theorem dX2_answerWish_5 : decode cX2_answerWish 5 = .ok (.aload_n 0, 1) := dk_42 (dk_at dksX2_answerWish_0 5 rfl rfl)
theorem dX2_answerWish_6 : decode cX2_answerWish 6 = .ok (.invokevirtual 79, 3) := dk_182 0 79 (dk_at dksX2_answerWish_0 6 rfl rfl)
theorem dX2_answerWish_9 : decode cX2_answerWish 9 = .ok (.invokevirtual 210, 3) := dk_182 0 210 (dk_at dksX2_answerWish_0 9 rfl rfl)
theorem dX2_answerWish_12 : decode cX2_answerWish 12 = .ok (.if_icmp .lt 29, 3) := dk_161 0 29 (dk_at dksX2_answerWish_0 12 rfl rfl)
theorem dX2_answerWish_15 : decode cX2_answerWish 15 = .ok (.aload_n 1, 1) := dk_43 (dk_at dksX2_answerWish_0 15 rfl rfl)
theorem dX2_answerWish_16 : decode cX2_answerWish 16 = .ok (.getfield 233, 3) := dk_180 0 233 (dk_at dksX2_answerWish_0 16 rfl rfl)
theorem dX2_answerWish_19 : decode cX2_answerWish 19 = .ok (.aload_n 0, 1) := dk_42 (dk_at dksX2_answerWish_0 19 rfl rfl)
theorem dX2_answerWish_20 : decode cX2_answerWish 20 = .ok (.aload_n 0, 1) := dk_42 (dk_at dksX2_answerWish_0 20 rfl rfl)
theorem dX2_answerWish_21 : decode cX2_answerWish 21 = .ok (.invokevirtual 79, 3) := dk_182 0 79 (dk_at dksX2_answerWish_0 21 rfl rfl)
theorem dX2_answerWish_24 : decode cX2_answerWish 24 = .ok (.invokevirtual 210, 3) := dk_182 0 210 (dk_at dksX2_answerWish_1 0 rfl rfl)
theorem dX2_answerWish_27 : decode cX2_answerWish 27 = .ok (.if_icmp .ne 18, 3) := dk_160 0 18 (dk_at dksX2_answerWish_1 3 rfl rfl)
theorem dX2_answerWish_30 : decode cX2_answerWish 30 = .ok (.aload_n 1, 1) := dk_43 (dk_at dksX2_answerWish_1 6 rfl rfl)
theorem dX2_answerWish_31 : decode cX2_answerWish 31 = .ok (.getfield 236, 3) := dk_180 0 236 (dk_at dksX2_answerWish_1 7 rfl rfl)
theorem dX2_answerWish_34 : decode cX2_answerWish 34 = .ok (.aload_n 0, 1) := dk_42 (dk_at dksX2_answerWish_1 10 rfl rfl)
theorem dX2_answerWish_35 : decode cX2_answerWish 35 = .ok (.invokevirtual 79, 3) := dk_182 0 79 (dk_at dksX2_answerWish_1 11 rfl rfl)
theorem dX2_answerWish_38 : decode cX2_answerWish 38 = .ok (.if_icmp .ge 7, 3) := dk_162 0 7 (dk_at dksX2_answerWish_1 14 rfl rfl)
theorem dX2_answerWish_41 : decode cX2_answerWish 41 = .ok (.iconst 1, 1) := dk_4 (dk_at dksX2_answerWish_1 17 rfl rfl)
theorem dX2_answerWish_42 : decode cX2_answerWish 42 = .ok (.goto 4, 3) := dk_167 0 4 (dk_at dksX2_answerWish_1 18 rfl rfl)
theorem dX2_answerWish_45 : decode cX2_answerWish 45 = .ok (.iconst 0, 1) := dk_3 (dk_at dksX2_answerWish_1 21 rfl rfl)
theorem dX2_answerWish_46 : decode cX2_answerWish 46 = .ok (.istore_n 2, 1) := dk_61 (dk_at dksX2_answerWish_1 22 rfl rfl)
theorem dX2_answerWish_47 : decode cX2_answerWish 47 = .ok (.aload_n 1, 1) := dk_43 (dk_at dksX2_answerWish_1 23 rfl rfl)
theorem dX2_answerWish_48 : decode cX2_answerWish 48 = .ok (.getfield 239, 3) := dk_180 0 239 (dk_at dksX2_answerWish_2 0 rfl rfl)
theorem dX2_answerWish_51 : decode cX2_answerWish 51 = .ok (.aload_n 0, 1) := dk_42 (dk_at dksX2_answerWish_2 3 rfl rfl)
theorem dX2_answerWish_52 : decode cX2_answerWish 52 = .ok (.getfield 143, 3) := dk_180 0 143 (dk_at dksX2_answerWish_2 4 rfl rfl)
theorem dX2_answerWish_55 : decode cX2_answerWish 55 = .ok (.if_icmp .ne 30, 3) := dk_160 0 30 (dk_at dksX2_answerWish_2 7 rfl rfl)
theorem dX2_answerWish_58 : decode cX2_answerWish 58 = .ok (.aload_n 0, 1) := dk_42 (dk_at dksX2_answerWish_2 10 rfl rfl)
theorem dX2_answerWish_59 : decode cX2_answerWish 59 = .ok (.getfield 23, 3) := dk_180 0 23 (dk_at dksX2_answerWish_2 11 rfl rfl)
theorem dX2_answerWish_62 : decode cX2_answerWish 62 = .ok (.iconst (-1), 1) := dk_2 (dk_at dksX2_answerWish_2 14 rfl rfl)
theorem dX2_answerWish_63 : decode cX2_answerWish 63 = .ok (.if_icmp .eq 14, 3) := dk_159 0 14 (dk_at dksX2_answerWish_2 15 rfl rfl)
theorem dX2_answerWish_66 : decode cX2_answerWish 66 = .ok (.aload_n 0, 1) := dk_42 (dk_at dksX2_answerWish_2 18 rfl rfl)
theorem dX2_answerWish_67 : decode cX2_answerWish 67 = .ok (.getfield 23, 3) := dk_180 0 23 (dk_at dksX2_answerWish_2 19 rfl rfl)
theorem dX2_answerWish_70 : decode cX2_answerWish 70 = .ok (.aload_n 1, 1) := dk_43 (dk_at dksX2_answerWish_2 22 rfl rfl)
theorem dX2_answerWish_71 : decode cX2_answerWish 71 = .ok (.getfield 240, 3) := dk_180 0 240 (dk_at dksX2_answerWish_3 0 rfl rfl)
theorem dX2_answerWish_74 : decode cX2_answerWish 74 = .ok (.if_icmp .ne 11, 3) := dk_160 0 11 (dk_at dksX2_answerWish_3 3 rfl rfl)
theorem dX2_answerWish_77 : decode cX2_answerWish 77 = .ok (.iload_n 2, 1) := dk_28 (dk_at dksX2_answerWish_3 6 rfl rfl)
theorem dX2_answerWish_78 : decode cX2_answerWish 78 = .ok (.ifCond .ne 7, 3) := dk_154 0 7 (dk_at dksX2_answerWish_3 7 rfl rfl)
theorem dX2_answerWish_81 : decode cX2_answerWish 81 = .ok (.iconst 1, 1) := dk_4 (dk_at dksX2_answerWish_3 10 rfl rfl)
theorem dX2_answerWish_82 : decode cX2_answerWish 82 = .ok (.goto 4, 3) := dk_167 0 4 (dk_at dksX2_answerWish_3 11 rfl rfl)
theorem dX2_answerWish_85 : decode cX2_answerWish 85 = .ok (.iconst 0, 1) := dk_3 (dk_at dksX2_answerWish_3 14 rfl rfl)
theorem dX2_answerWish_86 : decode cX2_answerWish 86 = .ok (.istore_n 3, 1) := dk_62 (dk_at dksX2_answerWish_3 15 rfl rfl)
theorem dX2_answerWish_87 : decode cX2_answerWish 87 = .ok (.iload_n 3, 1) := dk_29 (dk_at dksX2_answerWish_3 16 rfl rfl)
theorem dX2_answerWish_88 : decode cX2_answerWish 88 = .ok (.ifCond .eq 19, 3) := dk_153 0 19 (dk_at dksX2_answerWish_3 17 rfl rfl)
theorem dX2_answerWish_91 : decode cX2_answerWish 91 = .ok (.aload_n 0, 1) := dk_42 (dk_at dksX2_answerWish_3 20 rfl rfl)
theorem dX2_answerWish_92 : decode cX2_answerWish 92 = .ok (.aload_n 1, 1) := dk_43 (dk_at dksX2_answerWish_3 21 rfl rfl)
theorem dX2_answerWish_93 : decode cX2_answerWish 93 = .ok (.getfield 240, 3) := dk_180 0 240 (dk_at dksX2_answerWish_4 0 rfl rfl)
theorem dX2_answerWish_96 : decode cX2_answerWish 96 = .ok (.putfield 23, 3) := dk_181 0 23 (dk_at dksX2_answerWish_4 3 rfl rfl)
theorem dX2_answerWish_99 : decode cX2_answerWish 99 = .ok (.aload_n 0, 1) := dk_42 (dk_at dksX2_answerWish_4 6 rfl rfl)
theorem dX2_answerWish_100 : decode cX2_answerWish 100 = .ok (.aload_n 0, 1) := dk_42 (dk_at dksX2_answerWish_4 7 rfl rfl)
theorem dX2_answerWish_101 : decode cX2_answerWish 101 = .ok (.getfield 186, 3) := dk_180 0 186 (dk_at dksX2_answerWish_4 8 rfl rfl)
theorem dX2_answerWish_104 : decode cX2_answerWish 104 = .ok (.putfield 199, 3) := dk_181 0 199 (dk_at dksX2_answerWish_4 11 rfl rfl)
theorem dX2_answerWish_107 : decode cX2_answerWish 107 = .ok (.aload_n 0, 1) := dk_42 (dk_at dksX2_answerWish_4 14 rfl rfl)
theorem dX2_answerWish_108 : decode cX2_answerWish 108 = .ok (.getfield 3, 3) := dk_180 0 3 (dk_at dksX2_answerWish_4 15 rfl rfl)
theorem dX2_answerWish_111 : decode cX2_answerWish 111 = .ok (.new 243, 3) := dk_187 0 243 (dk_at dksX2_answerWish_4 18 rfl rfl)
theorem dX2_answerWish_114 : decode cX2_answerWish 114 = .ok (.dup, 1) := dk_89 (dk_at dksX2_answerWish_4 21 rfl rfl)
theorem dX2_answerWish_115 : decode cX2_answerWish 115 = .ok (.aload_n 0, 1) := dk_42 (dk_at dksX2_answerWish_4 22 rfl rfl)
theorem dX2_answerWish_116 : decode cX2_answerWish 116 = .ok (.getfield 3, 3) := dk_180 0 3 (dk_at dksX2_answerWish_5 0 rfl rfl)
theorem dX2_answerWish_119 : decode cX2_answerWish 119 = .ok (.invokevirtual 207, 3) := dk_182 0 207 (dk_at dksX2_answerWish_5 3 rfl rfl)
theorem dX2_answerWish_122 : decode cX2_answerWish 122 = .ok (.aload_n 0, 1) := dk_42 (dk_at dksX2_answerWish_5 6 rfl rfl)
theorem dX2_answerWish_123 : decode cX2_answerWish 123 = .ok (.getfield 60, 3) := dk_180 0 60 (dk_at dksX2_answerWish_5 7 rfl rfl)
theorem dX2_answerWish_126 : decode cX2_answerWish 126 = .ok (.aload_n 1, 1) := dk_43 (dk_at dksX2_answerWish_5 10 rfl rfl)
theorem dX2_answerWish_127 : decode cX2_answerWish 127 = .ok (.getfield 240, 3) := dk_180 0 240 (dk_at dksX2_answerWish_5 11 rfl rfl)
theorem dX2_answerWish_130 : decode cX2_answerWish 130 = .ok (.aload_n 0, 1) := dk_42 (dk_at dksX2_answerWish_5 14 rfl rfl)
theorem dX2_answerWish_131 : decode cX2_answerWish 131 = .ok (.getfield 143, 3) := dk_180 0 143 (dk_at dksX2_answerWish_5 15 rfl rfl)
theorem dX2_answerWish_134 : decode cX2_answerWish 134 = .ok (.iload_n 3, 1) := dk_29 (dk_at dksX2_answerWish_5 18 rfl rfl)
theorem dX2_answerWish_135 : decode cX2_answerWish 135 = .ok (.invokespecial 245, 3) := dk_183 0 245 (dk_at dksX2_answerWish_5 19 rfl rfl)
theorem dX2_answerWish_138 : decode cX2_answerWish 138 = .ok (.invokevirtual 217, 3) := dk_182 0 217 (dk_at dksX2_answerWish_6 0 rfl rfl)
theorem dX2_answerWish_141 : decode cX2_answerWish 141 = .ok (.return_, 1) := dk_177 (dk_at dksX2_answerWish_6 3 rfl rfl)
theorem q50 : (Jvm.Cond.initialized "QuorumAlmanac$Node") ∈ lw_all := lw_g (lw_at lw_m1 6 rfl) rfl
theorem q108 : (Jvm.Cond.instanceMethod ({ cls := "QuorumAlmanac$Node", name := "last", desc := "()I" } : Jvm.MethodName)) ∈ lw_all := lw_g (lw_at lw_m1 64 rfl) rfl
theorem q109 : (Jvm.Cond.selects "QuorumAlmanac$Node" ({ cls := "QuorumAlmanac$Node", name := "last", desc := "()I" } : Jvm.MethodName) ({ cls := "QuorumAlmanac$Node", name := "last", desc := "()I" } : Jvm.MethodName)) ∈ lw_all := lw_g (lw_at lw_m1 65 rfl) rfl
theorem q110 : (Jvm.Cond.code ({ cls := "QuorumAlmanac$Node", name := "last", desc := "()I" } : Jvm.MethodName) prog_9_method_2_code (1 : Nat) (Option.some Jvm.ClassFile.FieldType.int)) ∈ lw_all := lw_g (lw_at lw_m1 66 rfl) rfl
theorem q111 : (Jvm.Cond.methodLink "QuorumAlmanac$Node" (75 : Nat) ({ cls := "java/util/ArrayList", name := "size", desc := "()I" } : Jvm.MethodName)) ∈ lw_all := lw_g (lw_at lw_m1 67 rfl) rfl
theorem q154 : (Jvm.Cond.instantiable "QuorumAlmanac$Node" (22 : Nat)) ∈ lw_all := lw_g (lw_at lw_m1 110 rfl) rfl
theorem q163 : (Jvm.Cond.fieldLink "QuorumAlmanac$Node" (144 : Nat) "QuorumAlmanac$Members" "now" "I") ∈ lw_all := lw_g (lw_at lw_m1 119 rfl) rfl
theorem q171 : (Jvm.Cond.instanceMethod ({ cls := "QuorumAlmanac$Node", name := "<init>", desc := "(LQuorumAlmanac;ILQuorumAlmanac$Members;)V" } : Jvm.MethodName)) ∈ lw_all := lw_g (lw_at lw_m1 127 rfl) rfl
theorem q172 : (Jvm.Cond.code ({ cls := "QuorumAlmanac$Node", name := "<init>", desc := "(LQuorumAlmanac;ILQuorumAlmanac$Members;)V" } : Jvm.MethodName) prog_9_method_1_code (4 : Nat) (Option.none : Option Jvm.ClassFile.FieldType)) ∈ lw_all := lw_g (lw_at lw_m1 128 rfl) rfl
theorem q173 : (Jvm.Cond.methodLink "QuorumAlmanac$Node" (9 : Nat) ({ cls := "java/lang/Object", name := "<init>", desc := "()V" } : Jvm.MethodName)) ∈ lw_all := lw_g (lw_at lw_m1 129 rfl) rfl
theorem q174 : (Jvm.Cond.classLink "QuorumAlmanac$Node" (30 : Nat) "java/util/ArrayList") ∈ lw_all := lw_g (lw_at lw_m1 130 rfl) rfl
theorem q175 : (Jvm.Cond.methodLink "QuorumAlmanac$Node" (32 : Nat) ({ cls := "java/util/ArrayList", name := "<init>", desc := "()V" } : Jvm.MethodName)) ∈ lw_all := lw_g (lw_at lw_m1 131 rfl) rfl
theorem q176 : (Jvm.Cond.classLink "QuorumAlmanac$Node" (37 : Nat) "QuorumAlmanac$Store") ∈ lw_all := lw_g (lw_at lw_m1 132 rfl) rfl
theorem q178 : (Jvm.Cond.methodLink "QuorumAlmanac$Node" (39 : Nat) ({ cls := "QuorumAlmanac$Store", name := "<init>", desc := "()V" } : Jvm.MethodName)) ∈ lw_all := lw_g (lw_at lw_m1 134 rfl) rfl
theorem q183 : (Jvm.Cond.fieldLink "QuorumAlmanac$Node" (379 : Nat) "QuorumAlmanac$Store" "values" "[I") ∈ lw_all := lw_g (lw_at lw_m1 139 rfl) rfl
theorem q197 : (Jvm.Cond.classLink "QuorumAlmanac$Node" (63 : Nat) "QuorumAlmanac$Snapshot") ∈ lw_all := lw_g (lw_at lw_m1 153 rfl) rfl
theorem q199 : (Jvm.Cond.methodLink "QuorumAlmanac$Node" (65 : Nat) ({ cls := "QuorumAlmanac$Snapshot", name := "<init>", desc := "(IILQuorumAlmanac$Members;LQuorumAlmanac$Store;)V" } : Jvm.MethodName)) ∈ lw_all := lw_g (lw_at lw_m1 155 rfl) rfl
theorem q204 : (Jvm.Cond.fieldLink "QuorumAlmanac$Node" (72 : Nat) "QuorumAlmanac$Snapshot" "index" "I") ∈ lw_all := lw_g (lw_at lw_m1 160 rfl) rfl
theorem q207 : (Jvm.Cond.fieldLink "QuorumAlmanac$Node" (88 : Nat) "QuorumAlmanac$Snapshot" "term" "I") ∈ lw_all := lw_g (lw_at lw_m1 163 rfl) rfl
theorem q209 : (Jvm.Cond.fieldLink "QuorumAlmanac$Node" (110 : Nat) "QuorumAlmanac$Snapshot" "members" "LQuorumAlmanac$Members;") ∈ lw_all := lw_g (lw_at lw_m1 165 rfl) rfl
theorem q211 : (Jvm.Cond.fieldLink "QuorumAlmanac$Node" (350 : Nat) "QuorumAlmanac$Snapshot" "store" "LQuorumAlmanac$Store;") ∈ lw_all := lw_g (lw_at lw_m1 167 rfl) rfl
theorem q221 : (Jvm.Cond.fieldLink "QuorumAlmanac$Node" (60 : Nat) "QuorumAlmanac$Node" "number" "I") ∈ lw_all := lw_g (lw_at lw_m1 177 rfl) rfl
theorem q222 : (Jvm.Cond.fieldLink "QuorumAlmanac$Node" (15 : Nat) "QuorumAlmanac$Node" "runs" "Z") ∈ lw_all := lw_g (lw_at lw_m1 178 rfl) rfl
theorem q224 : (Jvm.Cond.fieldLink "QuorumAlmanac$Node" (19 : Nat) "QuorumAlmanac$Node" "role" "C") ∈ lw_all := lw_g (lw_at lw_m1 180 rfl) rfl
theorem q228 : (Jvm.Cond.fieldLink "QuorumAlmanac$Node" (186 : Nat) "QuorumAlmanac$Node" "clock" "I") ∈ lw_all := lw_g (lw_at lw_m1 184 rfl) rfl
theorem q234 : (Jvm.Cond.fieldLink "QuorumAlmanac$Node" (143 : Nat) "QuorumAlmanac$Node" "term" "I") ∈ lw_all := lw_g (lw_at lw_m1 190 rfl) rfl
theorem q236 : (Jvm.Cond.fieldLink "QuorumAlmanac$Node" (23 : Nat) "QuorumAlmanac$Node" "vote" "I") ∈ lw_all := lw_g (lw_at lw_m1 192 rfl) rfl
theorem q238 : (Jvm.Cond.fieldLink "QuorumAlmanac$Node" (199 : Nat) "QuorumAlmanac$Node" "heard" "I") ∈ lw_all := lw_g (lw_at lw_m1 194 rfl) rfl
theorem q239 : (Jvm.Cond.fieldLink "QuorumAlmanac$Node" (27 : Nat) "QuorumAlmanac$Node" "boundAt" "I") ∈ lw_all := lw_g (lw_at lw_m1 195 rfl) rfl
theorem q240 : (Jvm.Cond.fieldLink "QuorumAlmanac$Node" (68 : Nat) "QuorumAlmanac$Node" "snapshot" "LQuorumAlmanac$Snapshot;") ∈ lw_all := lw_g (lw_at lw_m1 196 rfl) rfl
theorem q242 : (Jvm.Cond.fieldLink "QuorumAlmanac$Node" (33 : Nat) "QuorumAlmanac$Node" "log" "Ljava/util/ArrayList;") ∈ lw_all := lw_g (lw_at lw_m1 198 rfl) rfl
theorem q245 : (Jvm.Cond.fieldLink "QuorumAlmanac$Node" (315 : Nat) "QuorumAlmanac$Node" "synced" "I") ∈ lw_all := lw_g (lw_at lw_m1 201 rfl) rfl
theorem q246 : (Jvm.Cond.fieldLink "QuorumAlmanac$Node" (114 : Nat) "QuorumAlmanac$Node" "committed" "I") ∈ lw_all := lw_g (lw_at lw_m1 202 rfl) rfl
theorem q248 : (Jvm.Cond.fieldLink "QuorumAlmanac$Node" (40 : Nat) "QuorumAlmanac$Node" "store" "LQuorumAlmanac$Store;") ∈ lw_all := lw_g (lw_at lw_m1 204 rfl) rfl
theorem q250 : (Jvm.Cond.fieldLink "QuorumAlmanac$Node" (180 : Nat) "QuorumAlmanac$Node" "agreed" "I") ∈ lw_all := lw_g (lw_at lw_m1 206 rfl) rfl
theorem q251 : (Jvm.Cond.fieldLink "QuorumAlmanac$Node" (44 : Nat) "QuorumAlmanac$Node" "leader" "I") ∈ lw_all := lw_g (lw_at lw_m1 207 rfl) rfl
theorem q252 : (Jvm.Cond.fieldLink "QuorumAlmanac$Node" (183 : Nat) "QuorumAlmanac$Node" "lastRound" "I") ∈ lw_all := lw_g (lw_at lw_m1 208 rfl) rfl
theorem q254 : (Jvm.Cond.fieldLink "QuorumAlmanac$Node" (196 : Nat) "QuorumAlmanac$Node" "voices" "I") ∈ lw_all := lw_g (lw_at lw_m1 210 rfl) rfl
theorem q255 : (Jvm.Cond.fieldLink "QuorumAlmanac$Node" (47 : Nat) "QuorumAlmanac$Node" "next" "[I") ∈ lw_all := lw_g (lw_at lw_m1 211 rfl) rfl
theorem q256 : (Jvm.Cond.fieldLink "QuorumAlmanac$Node" (51 : Nat) "QuorumAlmanac$Node" "agreeing" "[I") ∈ lw_all := lw_g (lw_at lw_m1 212 rfl) rfl
theorem q257 : (Jvm.Cond.fieldLink "QuorumAlmanac$Node" (54 : Nat) "QuorumAlmanac$Node" "answered" "[I") ∈ lw_all := lw_g (lw_at lw_m1 213 rfl) rfl
theorem q258 : (Jvm.Cond.fieldLink "QuorumAlmanac$Node" (57 : Nat) "QuorumAlmanac$Node" "roundClocks" "Ljava/util/ArrayList;") ∈ lw_all := lw_g (lw_at lw_m1 214 rfl) rfl
theorem q260 : (Jvm.Cond.fieldLink "QuorumAlmanac$Node" (3 : Nat) "QuorumAlmanac$Node" "this$0" "LQuorumAlmanac;") ∈ lw_all := lw_g (lw_at lw_m1 216 rfl) rfl
theorem q261 : (Jvm.Cond.laysFinal "QuorumAlmanac$Node" "QuorumAlmanac$Node" "number" "I") ∈ lw_all := lw_g (lw_at lw_m1 217 rfl) rfl
theorem q262 : (Jvm.Cond.soleField "QuorumAlmanac$Node" "number") ∈ lw_all := lw_g (lw_at lw_m1 218 rfl) rfl
theorem q263 : (Jvm.Cond.lays "QuorumAlmanac$Node" "QuorumAlmanac$Node" "runs" "Z") ∈ lw_all := lw_g (lw_at lw_m1 219 rfl) rfl
theorem q264 : (Jvm.Cond.soleField "QuorumAlmanac$Node" "runs") ∈ lw_all := lw_g (lw_at lw_m1 220 rfl) rfl
theorem q265 : (Jvm.Cond.lays "QuorumAlmanac$Node" "QuorumAlmanac$Node" "role" "C") ∈ lw_all := lw_g (lw_at lw_m1 221 rfl) rfl
theorem q266 : (Jvm.Cond.soleField "QuorumAlmanac$Node" "role") ∈ lw_all := lw_g (lw_at lw_m1 222 rfl) rfl
theorem q267 : (Jvm.Cond.lays "QuorumAlmanac$Node" "QuorumAlmanac$Node" "clock" "I") ∈ lw_all := lw_g (lw_at lw_m1 223 rfl) rfl
theorem q268 : (Jvm.Cond.soleField "QuorumAlmanac$Node" "clock") ∈ lw_all := lw_g (lw_at lw_m1 224 rfl) rfl
theorem q269 : (Jvm.Cond.lays "QuorumAlmanac$Node" "QuorumAlmanac$Node" "term" "I") ∈ lw_all := lw_g (lw_at lw_m1 225 rfl) rfl
theorem q270 : (Jvm.Cond.soleField "QuorumAlmanac$Node" "term") ∈ lw_all := lw_g (lw_at lw_m1 226 rfl) rfl
theorem q271 : (Jvm.Cond.lays "QuorumAlmanac$Node" "QuorumAlmanac$Node" "vote" "I") ∈ lw_all := lw_g (lw_at lw_m1 227 rfl) rfl
theorem q272 : (Jvm.Cond.soleField "QuorumAlmanac$Node" "vote") ∈ lw_all := lw_g (lw_at lw_m1 228 rfl) rfl
theorem q273 : (Jvm.Cond.lays "QuorumAlmanac$Node" "QuorumAlmanac$Node" "heard" "I") ∈ lw_all := lw_g (lw_at lw_m1 229 rfl) rfl
theorem q274 : (Jvm.Cond.soleField "QuorumAlmanac$Node" "heard") ∈ lw_all := lw_g (lw_at lw_m1 230 rfl) rfl
theorem q275 : (Jvm.Cond.lays "QuorumAlmanac$Node" "QuorumAlmanac$Node" "boundAt" "I") ∈ lw_all := lw_g (lw_at lw_m1 231 rfl) rfl
theorem q276 : (Jvm.Cond.soleField "QuorumAlmanac$Node" "boundAt") ∈ lw_all := lw_g (lw_at lw_m1 232 rfl) rfl
theorem q277 : (Jvm.Cond.lays "QuorumAlmanac$Node" "QuorumAlmanac$Node" "snapshot" "LQuorumAlmanac$Snapshot;") ∈ lw_all := lw_g (lw_at lw_m1 233 rfl) rfl
theorem q278 : (Jvm.Cond.soleField "QuorumAlmanac$Node" "snapshot") ∈ lw_all := lw_g (lw_at lw_m1 234 rfl) rfl
theorem q279 : (Jvm.Cond.lays "QuorumAlmanac$Node" "QuorumAlmanac$Node" "log" "Ljava/util/ArrayList;") ∈ lw_all := lw_g (lw_at lw_m1 235 rfl) rfl
theorem q280 : (Jvm.Cond.soleField "QuorumAlmanac$Node" "log") ∈ lw_all := lw_g (lw_at lw_m1 236 rfl) rfl
theorem q281 : (Jvm.Cond.lays "QuorumAlmanac$Node" "QuorumAlmanac$Node" "synced" "I") ∈ lw_all := lw_g (lw_at lw_m1 237 rfl) rfl
theorem q282 : (Jvm.Cond.soleField "QuorumAlmanac$Node" "synced") ∈ lw_all := lw_g (lw_at lw_m1 238 rfl) rfl
theorem q283 : (Jvm.Cond.lays "QuorumAlmanac$Node" "QuorumAlmanac$Node" "committed" "I") ∈ lw_all := lw_g (lw_at lw_m1 239 rfl) rfl
theorem q284 : (Jvm.Cond.soleField "QuorumAlmanac$Node" "committed") ∈ lw_all := lw_g (lw_at lw_m2 0 rfl) rfl
theorem q285 : (Jvm.Cond.lays "QuorumAlmanac$Node" "QuorumAlmanac$Node" "store" "LQuorumAlmanac$Store;") ∈ lw_all := lw_g (lw_at lw_m2 1 rfl) rfl
theorem q286 : (Jvm.Cond.soleField "QuorumAlmanac$Node" "store") ∈ lw_all := lw_g (lw_at lw_m2 2 rfl) rfl
theorem q287 : (Jvm.Cond.lays "QuorumAlmanac$Node" "QuorumAlmanac$Node" "agreed" "I") ∈ lw_all := lw_g (lw_at lw_m2 3 rfl) rfl
theorem q288 : (Jvm.Cond.soleField "QuorumAlmanac$Node" "agreed") ∈ lw_all := lw_g (lw_at lw_m2 4 rfl) rfl
theorem q289 : (Jvm.Cond.lays "QuorumAlmanac$Node" "QuorumAlmanac$Node" "leader" "I") ∈ lw_all := lw_g (lw_at lw_m2 5 rfl) rfl
theorem q290 : (Jvm.Cond.soleField "QuorumAlmanac$Node" "leader") ∈ lw_all := lw_g (lw_at lw_m2 6 rfl) rfl
theorem q291 : (Jvm.Cond.lays "QuorumAlmanac$Node" "QuorumAlmanac$Node" "lastRound" "I") ∈ lw_all := lw_g (lw_at lw_m2 7 rfl) rfl
theorem q292 : (Jvm.Cond.soleField "QuorumAlmanac$Node" "lastRound") ∈ lw_all := lw_g (lw_at lw_m2 8 rfl) rfl
theorem q293 : (Jvm.Cond.lays "QuorumAlmanac$Node" "QuorumAlmanac$Node" "voices" "I") ∈ lw_all := lw_g (lw_at lw_m2 9 rfl) rfl
theorem q294 : (Jvm.Cond.soleField "QuorumAlmanac$Node" "voices") ∈ lw_all := lw_g (lw_at lw_m2 10 rfl) rfl
theorem q295 : (Jvm.Cond.laysFinal "QuorumAlmanac$Node" "QuorumAlmanac$Node" "next" "[I") ∈ lw_all := lw_g (lw_at lw_m2 11 rfl) rfl
theorem q296 : (Jvm.Cond.soleField "QuorumAlmanac$Node" "next") ∈ lw_all := lw_g (lw_at lw_m2 12 rfl) rfl
theorem q297 : (Jvm.Cond.laysFinal "QuorumAlmanac$Node" "QuorumAlmanac$Node" "agreeing" "[I") ∈ lw_all := lw_g (lw_at lw_m2 13 rfl) rfl
theorem q298 : (Jvm.Cond.soleField "QuorumAlmanac$Node" "agreeing") ∈ lw_all := lw_g (lw_at lw_m2 14 rfl) rfl
theorem q299 : (Jvm.Cond.laysFinal "QuorumAlmanac$Node" "QuorumAlmanac$Node" "answered" "[I") ∈ lw_all := lw_g (lw_at lw_m2 15 rfl) rfl
theorem q300 : (Jvm.Cond.soleField "QuorumAlmanac$Node" "answered") ∈ lw_all := lw_g (lw_at lw_m2 16 rfl) rfl
theorem q301 : (Jvm.Cond.laysFinal "QuorumAlmanac$Node" "QuorumAlmanac$Node" "roundClocks" "Ljava/util/ArrayList;") ∈ lw_all := lw_g (lw_at lw_m2 17 rfl) rfl
theorem q302 : (Jvm.Cond.soleField "QuorumAlmanac$Node" "roundClocks") ∈ lw_all := lw_g (lw_at lw_m2 18 rfl) rfl
theorem q303 : (Jvm.Cond.laysFinal "QuorumAlmanac$Node" "QuorumAlmanac$Node" "this$0" "LQuorumAlmanac;") ∈ lw_all := lw_g (lw_at lw_m2 19 rfl) rfl
theorem q304 : (Jvm.Cond.soleField "QuorumAlmanac$Node" "this$0") ∈ lw_all := lw_g (lw_at lw_m2 20 rfl) rfl
theorem q305 : (Jvm.Cond.superclass "QuorumAlmanac$Node" "java/lang/Object") ∈ lw_all := lw_g (lw_at lw_m2 21 rfl) rfl
theorem q309 : (Jvm.Cond.fieldLinkNest "QuorumAlmanac$Node" (394 : Nat) "QuorumAlmanac" "nodes" "[LQuorumAlmanac$Node;" "QuorumAlmanac") ∈ lw_tbl := lw_at lw_m2 25 rfl
theorem q312 : (Jvm.Cond.fieldLinkNest "QuorumAlmanac$Node" (154 : Nat) "QuorumAlmanac" "reads" "Ljava/util/ArrayList;" "QuorumAlmanac") ∈ lw_tbl := lw_at lw_m2 28 rfl
theorem q316 : (Jvm.Cond.fieldLinkNest "QuorumAlmanac$Node" (282 : Nat) "QuorumAlmanac" "refused" "I" "QuorumAlmanac") ∈ lw_tbl := lw_at lw_m2 32 rfl
theorem q320 : (Jvm.Cond.fieldLinkNest "QuorumAlmanac$Node" (388 : Nat) "QuorumAlmanac" "isStrong" "Z" "QuorumAlmanac") ∈ lw_tbl := lw_at lw_m2 36 rfl
theorem q411 : (Jvm.Cond.instanceMethod ({ cls := "QuorumAlmanac$Node", name := "entry", desc := "(I)LQuorumAlmanac$Entry;" } : Jvm.MethodName)) ∈ lw_all := lw_g (lw_at lw_m2 127 rfl) rfl
theorem q412 : (Jvm.Cond.selects "QuorumAlmanac$Node" ({ cls := "QuorumAlmanac$Node", name := "entry", desc := "(I)LQuorumAlmanac$Entry;" } : Jvm.MethodName) ({ cls := "QuorumAlmanac$Node", name := "entry", desc := "(I)LQuorumAlmanac$Entry;" } : Jvm.MethodName)) ∈ lw_all := lw_g (lw_at lw_m2 128 rfl) rfl
theorem q413 : (Jvm.Cond.code ({ cls := "QuorumAlmanac$Node", name := "entry", desc := "(I)LQuorumAlmanac$Entry;" } : Jvm.MethodName) prog_9_method_4_code (2 : Nat) (Option.some (Jvm.ClassFile.FieldType.object "QuorumAlmanac$Entry"))) ∈ lw_all := lw_g (lw_at lw_m2 129 rfl) rfl
theorem q414 : (Jvm.Cond.methodLink "QuorumAlmanac$Node" (82 : Nat) ({ cls := "java/util/ArrayList", name := "get", desc := "(I)Ljava/lang/Object;" } : Jvm.MethodName)) ∈ lw_all := lw_g (lw_at lw_m2 130 rfl) rfl
theorem q428 : (Jvm.Cond.classLink "QuorumAlmanac$Node" (86 : Nat) "QuorumAlmanac$Entry") ∈ lw_all := lw_g (lw_at lw_m2 144 rfl) rfl
theorem q459 : (Jvm.Cond.selects "QuorumAlmanac$Node" ({ cls := "java/lang/Object", name := "hashCode", desc := "()I" } : Jvm.MethodName) ({ cls := "java/lang/Object", name := "hashCode", desc := "()I" } : Jvm.MethodName)) ∈ lw_all := lw_g (lw_at lw_m2 175 rfl) rfl
theorem q564 : (Jvm.Cond.selects "QuorumAlmanac$Node" ({ cls := "java/lang/Object", name := "getClass", desc := "()Ljava/lang/Class;" } : Jvm.MethodName) ({ cls := "java/lang/Object", name := "getClass", desc := "()Ljava/lang/Class;" } : Jvm.MethodName)) ∈ lw_all := lw_g (lw_at lw_m3 40 rfl) rfl
theorem q643 : (Jvm.Cond.selects "QuorumAlmanac$Node" ({ cls := "java/lang/Object", name := "equals", desc := "(Ljava/lang/Object;)Z" } : Jvm.MethodName) ({ cls := "java/lang/Object", name := "equals", desc := "(Ljava/lang/Object;)Z" } : Jvm.MethodName)) ∈ lw_all := lw_g (lw_at lw_m3 119 rfl) rfl
theorem q744 : (Jvm.Cond.instanceMethod ({ cls := "QuorumAlmanac$Node", name := "termAt", desc := "(I)I" } : Jvm.MethodName)) ∈ lw_all := lw_g (lw_at lw_m3 220 rfl) rfl
theorem q745 : (Jvm.Cond.selects "QuorumAlmanac$Node" ({ cls := "QuorumAlmanac$Node", name := "termAt", desc := "(I)I" } : Jvm.MethodName) ({ cls := "QuorumAlmanac$Node", name := "termAt", desc := "(I)I" } : Jvm.MethodName)) ∈ lw_all := lw_g (lw_at lw_m3 221 rfl) rfl
theorem q746 : (Jvm.Cond.code ({ cls := "QuorumAlmanac$Node", name := "termAt", desc := "(I)I" } : Jvm.MethodName) prog_9_method_5_code (2 : Nat) (Option.some Jvm.ClassFile.FieldType.int)) ∈ lw_all := lw_g (lw_at lw_m3 222 rfl) rfl
theorem q747 : (Jvm.Cond.methodLink "QuorumAlmanac$Node" (91 : Nat) ({ cls := "QuorumAlmanac$Node", name := "entry", desc := "(I)LQuorumAlmanac$Entry;" } : Jvm.MethodName)) ∈ lw_all := lw_g (lw_at lw_m3 223 rfl) rfl
theorem q924 : (Jvm.Cond.instanceMethod ({ cls := "QuorumAlmanac$Node", name := "tick", desc := "()I" } : Jvm.MethodName)) ∈ lw_all := lw_g (lw_at lw_m4 160 rfl) rfl
theorem q925 : (Jvm.Cond.selects "QuorumAlmanac$Node" ({ cls := "QuorumAlmanac$Node", name := "tick", desc := "()I" } : Jvm.MethodName) ({ cls := "QuorumAlmanac$Node", name := "tick", desc := "()I" } : Jvm.MethodName)) ∈ lw_all := lw_g (lw_at lw_m4 161 rfl) rfl
theorem q926 : (Jvm.Cond.code ({ cls := "QuorumAlmanac$Node", name := "tick", desc := "()I" } : Jvm.MethodName) prog_9_method_17_code (1 : Nat) (Option.some Jvm.ClassFile.FieldType.int)) ∈ lw_all := lw_g (lw_at lw_m4 162 rfl) rfl
theorem q927 : (Jvm.Cond.classLink "QuorumAlmanac$Node" (248 : Nat) "java/lang/Integer") ∈ lw_all := lw_g (lw_at lw_m4 163 rfl) rfl
theorem q928 : (Jvm.Cond.methodLink "QuorumAlmanac$Node" (250 : Nat) ({ cls := "java/lang/Integer", name := "intValue", desc := "()I" } : Jvm.MethodName)) ∈ lw_all := lw_g (lw_at lw_m4 164 rfl) rfl
theorem q929 : (Jvm.Cond.methodLink "QuorumAlmanac$Node" (230 : Nat) ({ cls := "QuorumAlmanac$Node", name := "beginRound", desc := "()V" } : Jvm.MethodName)) ∈ lw_all := lw_g (lw_at lw_m4 165 rfl) rfl
theorem q930 : (Jvm.Cond.instanceMethod ({ cls := "QuorumAlmanac$Node", name := "beginRound", desc := "()V" } : Jvm.MethodName)) ∈ lw_all := lw_g (lw_at lw_m4 166 rfl) rfl
theorem q931 : (Jvm.Cond.selects "QuorumAlmanac$Node" ({ cls := "QuorumAlmanac$Node", name := "beginRound", desc := "()V" } : Jvm.MethodName) ({ cls := "QuorumAlmanac$Node", name := "beginRound", desc := "()V" } : Jvm.MethodName)) ∈ lw_all := lw_g (lw_at lw_m4 167 rfl) rfl
theorem q932 : (Jvm.Cond.code ({ cls := "QuorumAlmanac$Node", name := "beginRound", desc := "()V" } : Jvm.MethodName) prog_9_method_18_code (3 : Nat) (Option.none : Option Jvm.ClassFile.FieldType)) ∈ lw_all := lw_g (lw_at lw_m4 168 rfl) rfl
theorem q933 : (Jvm.Cond.methodLink "QuorumAlmanac$Node" (256 : Nat) ({ cls := "java/lang/Integer", name := "valueOf", desc := "(I)Ljava/lang/Integer;" } : Jvm.MethodName)) ∈ lw_all := lw_g (lw_at lw_m4 169 rfl) rfl
theorem q934 : (Jvm.Cond.methodLink "QuorumAlmanac$Node" (150 : Nat) ({ cls := "java/util/ArrayList", name := "add", desc := "(Ljava/lang/Object;)Z" } : Jvm.MethodName)) ∈ lw_all := lw_g (lw_at lw_m4 170 rfl) rfl
theorem q974 : (Jvm.Cond.methodLink "QuorumAlmanac$Node" (136 : Nat) ({ cls := "QuorumAlmanac$Node", name := "members", desc := "()LQuorumAlmanac$Members;" } : Jvm.MethodName)) ∈ lw_all := lw_g (lw_at lw_m4 210 rfl) rfl
theorem q975 : (Jvm.Cond.instanceMethod ({ cls := "QuorumAlmanac$Node", name := "members", desc := "()LQuorumAlmanac$Members;" } : Jvm.MethodName)) ∈ lw_all := lw_g (lw_at lw_m4 211 rfl) rfl
theorem q976 : (Jvm.Cond.selects "QuorumAlmanac$Node" ({ cls := "QuorumAlmanac$Node", name := "members", desc := "()LQuorumAlmanac$Members;" } : Jvm.MethodName) ({ cls := "QuorumAlmanac$Node", name := "members", desc := "()LQuorumAlmanac$Members;" } : Jvm.MethodName)) ∈ lw_all := lw_g (lw_at lw_m4 212 rfl) rfl
theorem q977 : (Jvm.Cond.code ({ cls := "QuorumAlmanac$Node", name := "members", desc := "()LQuorumAlmanac$Members;" } : Jvm.MethodName) prog_9_method_6_code (3 : Nat) (Option.some (Jvm.ClassFile.FieldType.object "QuorumAlmanac$Members"))) ∈ lw_all := lw_g (lw_at lw_m4 213 rfl) rfl
theorem q978 : (Jvm.Cond.methodLink "QuorumAlmanac$Node" (79 : Nat) ({ cls := "QuorumAlmanac$Node", name := "last", desc := "()I" } : Jvm.MethodName)) ∈ lw_all := lw_g (lw_at lw_m4 214 rfl) rfl
theorem q979 : (Jvm.Cond.classLink "QuorumAlmanac$Node" (99 : Nat) "QuorumAlmanac$Members") ∈ lw_all := lw_g (lw_at lw_m4 215 rfl) rfl
theorem q980 : (Jvm.Cond.methodLink "QuorumAlmanac$Node" (107 : Nat) ({ cls := "QuorumAlmanac$Members", name := "<init>", desc := "(II)V" } : Jvm.MethodName)) ∈ lw_all := lw_g (lw_at lw_m4 216 rfl) rfl
theorem q981 : (Jvm.Cond.methodLink "QuorumAlmanac$Node" (202 : Nat) ({ cls := "QuorumAlmanac$Members", name := "all", desc := "()I" } : Jvm.MethodName)) ∈ lw_all := lw_g (lw_at lw_m4 217 rfl) rfl
theorem q985 : (Jvm.Cond.methodLinkNest "QuorumAlmanac$Node" (125 : Nat) ({ cls := "QuorumAlmanac", name := "isIn", desc := "(II)Z" } : Jvm.MethodName) "QuorumAlmanac") ∈ lw_tbl := lw_at lw_m4 221 rfl
theorem q988 : (Jvm.Cond.methodLink "QuorumAlmanac$Node" (260 : Nat) ({ cls := "QuorumAlmanac$Node", name := "sendRound", desc := "(II)V" } : Jvm.MethodName)) ∈ lw_all := lw_g (lw_at lw_m4 224 rfl) rfl
theorem q989 : (Jvm.Cond.privateMethod ({ cls := "QuorumAlmanac$Node", name := "sendRound", desc := "(II)V" } : Jvm.MethodName)) ∈ lw_tbl := lw_at lw_m4 225 rfl
theorem q990 : (Jvm.Cond.instanceMethod ({ cls := "QuorumAlmanac$Node", name := "sendRound", desc := "(II)V" } : Jvm.MethodName)) ∈ lw_all := lw_g (lw_at lw_m4 226 rfl) rfl
theorem q991 : (Jvm.Cond.code ({ cls := "QuorumAlmanac$Node", name := "sendRound", desc := "(II)V" } : Jvm.MethodName) prog_9_method_19_code (5 : Nat) (Option.none : Option Jvm.ClassFile.FieldType)) ∈ lw_all := lw_g (lw_at lw_m4 227 rfl) rfl
theorem q992 : (Jvm.Cond.classLink "QuorumAlmanac$Node" (266 : Nat) "QuorumAlmanac$Install") ∈ lw_all := lw_g (lw_at lw_m4 228 rfl) rfl
theorem q994 : (Jvm.Cond.methodLinkNest "QuorumAlmanac$Node" (207 : Nat) ({ cls := "QuorumAlmanac", name := "nextMessage", desc := "()I" } : Jvm.MethodName) "QuorumAlmanac") ∈ lw_tbl := lw_at lw_m4 230 rfl
theorem q998 : (Jvm.Cond.methodLink "QuorumAlmanac$Node" (268 : Nat) ({ cls := "QuorumAlmanac$Install", name := "<init>", desc := "(IIIIILQuorumAlmanac$Snapshot;)V" } : Jvm.MethodName)) ∈ lw_all := lw_g (lw_at lw_m4 234 rfl) rfl
theorem q1009 : (Jvm.Cond.fieldLink "QuorumAlmanac$Node" (349 : Nat) "QuorumAlmanac$Install" "snapshot" "LQuorumAlmanac$Snapshot;") ∈ lw_all := lw_g (lw_at lw_m5 5 rfl) rfl
theorem q1017 : (Jvm.Cond.fieldLink "QuorumAlmanac$Node" (279 : Nat) "QuorumAlmanac$RoundMessage" "round" "I") ∈ lw_all := lw_g (lw_at lw_m5 13 rfl) rfl
theorem q1018 : (Jvm.Cond.fieldLink "QuorumAlmanac$Node" (325 : Nat) "QuorumAlmanac$Append" "round" "I") ∈ lw_all := lw_g (lw_at lw_m5 14 rfl) rfl
theorem q1019 : (Jvm.Cond.fieldLink "QuorumAlmanac$Node" (356 : Nat) "QuorumAlmanac$Install" "round" "I") ∈ lw_all := lw_g (lw_at lw_m5 15 rfl) rfl
theorem q1020 : (Jvm.Cond.fieldLink "QuorumAlmanac$Node" (362 : Nat) "QuorumAlmanac$Answer" "round" "I") ∈ lw_all := lw_g (lw_at lw_m5 16 rfl) rfl
theorem q1034 : (Jvm.Cond.fieldLink "QuorumAlmanac$Node" (240 : Nat) "QuorumAlmanac$Wish" "from" "I") ∈ lw_all := lw_g (lw_at lw_m5 30 rfl) rfl
theorem q1035 : (Jvm.Cond.fieldLink "QuorumAlmanac$Node" (276 : Nat) "QuorumAlmanac$RoundMessage" "from" "I") ∈ lw_all := lw_g (lw_at lw_m5 31 rfl) rfl
theorem q1037 : (Jvm.Cond.fieldLink "QuorumAlmanac$Node" (324 : Nat) "QuorumAlmanac$Append" "from" "I") ∈ lw_all := lw_g (lw_at lw_m5 33 rfl) rfl
theorem q1038 : (Jvm.Cond.fieldLink "QuorumAlmanac$Node" (355 : Nat) "QuorumAlmanac$Install" "from" "I") ∈ lw_all := lw_g (lw_at lw_m5 34 rfl) rfl
theorem q1039 : (Jvm.Cond.fieldLink "QuorumAlmanac$Node" (357 : Nat) "QuorumAlmanac$Answer" "from" "I") ∈ lw_all := lw_g (lw_at lw_m5 35 rfl) rfl
theorem q1066 : (Jvm.Cond.fieldLink "QuorumAlmanac$Node" (239 : Nat) "QuorumAlmanac$Wish" "term" "I") ∈ lw_all := lw_g (lw_at lw_m5 62 rfl) rfl
theorem q1080 : (Jvm.Cond.methodLinkNest "QuorumAlmanac$Node" (217 : Nat) ({ cls := "QuorumAlmanac", name := "send", desc := "(LQuorumAlmanac$Message;)V" } : Jvm.MethodName) "QuorumAlmanac") ∈ lw_tbl := lw_at lw_m5 76 rfl
theorem q1094 : (Jvm.Cond.classLink "QuorumAlmanac$Node" (271 : Nat) "QuorumAlmanac$Append") ∈ lw_all := lw_g (lw_at lw_m5 90 rfl) rfl
theorem q1096 : (Jvm.Cond.methodLink "QuorumAlmanac$Node" (210 : Nat) ({ cls := "QuorumAlmanac$Node", name := "termAt", desc := "(I)I" } : Jvm.MethodName)) ∈ lw_all := lw_g (lw_at lw_m5 92 rfl) rfl
theorem q1097 : (Jvm.Cond.methodLink "QuorumAlmanac$Node" (273 : Nat) ({ cls := "QuorumAlmanac$Append", name := "<init>", desc := "(IIIIIIILjava/util/ArrayList;I)V" } : Jvm.MethodName)) ∈ lw_all := lw_g (lw_at lw_m5 93 rfl) rfl
theorem q1102 : (Jvm.Cond.fieldLink "QuorumAlmanac$Node" (290 : Nat) "QuorumAlmanac$Append" "ahead" "I") ∈ lw_all := lw_g (lw_at lw_m5 98 rfl) rfl
theorem q1104 : (Jvm.Cond.fieldLink "QuorumAlmanac$Node" (301 : Nat) "QuorumAlmanac$Append" "aheadTerm" "I") ∈ lw_all := lw_g (lw_at lw_m5 100 rfl) rfl
theorem q1106 : (Jvm.Cond.fieldLink "QuorumAlmanac$Node" (333 : Nat) "QuorumAlmanac$Append" "entries" "Ljava/util/ArrayList;") ∈ lw_all := lw_g (lw_at lw_m5 102 rfl) rfl
theorem q1108 : (Jvm.Cond.fieldLink "QuorumAlmanac$Node" (342 : Nat) "QuorumAlmanac$Append" "committed" "I") ∈ lw_all := lw_g (lw_at lw_m5 104 rfl) rfl
theorem q1123 : (Jvm.Cond.methodLink "QuorumAlmanac$Node" (263 : Nat) ({ cls := "QuorumAlmanac$Node", name := "readyReads", desc := "()V" } : Jvm.MethodName)) ∈ lw_all := lw_g (lw_at lw_m5 119 rfl) rfl
theorem q1124 : (Jvm.Cond.privateMethod ({ cls := "QuorumAlmanac$Node", name := "readyReads", desc := "()V" } : Jvm.MethodName)) ∈ lw_tbl := lw_at lw_m5 120 rfl
theorem q1125 : (Jvm.Cond.instanceMethod ({ cls := "QuorumAlmanac$Node", name := "readyReads", desc := "()V" } : Jvm.MethodName)) ∈ lw_all := lw_g (lw_at lw_m5 121 rfl) rfl
theorem q1126 : (Jvm.Cond.code ({ cls := "QuorumAlmanac$Node", name := "readyReads", desc := "()V" } : Jvm.MethodName) prog_9_method_33_code (4 : Nat) (Option.none : Option Jvm.ClassFile.FieldType)) ∈ lw_all := lw_g (lw_at lw_m5 122 rfl) rfl
theorem q1127 : (Jvm.Cond.methodLink "QuorumAlmanac$Node" (375 : Nat) ({ cls := "QuorumAlmanac$Node", name := "latestAnswered", desc := "()I" } : Jvm.MethodName)) ∈ lw_all := lw_g (lw_at lw_m5 123 rfl) rfl
theorem q1128 : (Jvm.Cond.privateMethod ({ cls := "QuorumAlmanac$Node", name := "latestAnswered", desc := "()I" } : Jvm.MethodName)) ∈ lw_tbl := lw_at lw_m5 124 rfl
theorem q1129 : (Jvm.Cond.instanceMethod ({ cls := "QuorumAlmanac$Node", name := "latestAnswered", desc := "()I" } : Jvm.MethodName)) ∈ lw_all := lw_g (lw_at lw_m5 125 rfl) rfl
theorem q1130 : (Jvm.Cond.code ({ cls := "QuorumAlmanac$Node", name := "latestAnswered", desc := "()I" } : Jvm.MethodName) prog_9_method_29_code (3 : Nat) (Option.some Jvm.ClassFile.FieldType.int)) ∈ lw_all := lw_g (lw_at lw_m5 126 rfl) rfl
theorem q1131 : (Jvm.Cond.methodLink "QuorumAlmanac$Node" (369 : Nat) ({ cls := "QuorumAlmanac$Node", name := "setOf", desc := "(I)I" } : Jvm.MethodName)) ∈ lw_all := lw_g (lw_at lw_m5 127 rfl) rfl
theorem q1132 : (Jvm.Cond.privateMethod ({ cls := "QuorumAlmanac$Node", name := "setOf", desc := "(I)I" } : Jvm.MethodName)) ∈ lw_tbl := lw_at lw_m5 128 rfl
theorem q1133 : (Jvm.Cond.instanceMethod ({ cls := "QuorumAlmanac$Node", name := "setOf", desc := "(I)I" } : Jvm.MethodName)) ∈ lw_all := lw_g (lw_at lw_m5 129 rfl) rfl
theorem q1134 : (Jvm.Cond.code ({ cls := "QuorumAlmanac$Node", name := "setOf", desc := "(I)I" } : Jvm.MethodName) prog_9_method_30_code (4 : Nat) (Option.some Jvm.ClassFile.FieldType.int)) ∈ lw_all := lw_g (lw_at lw_m5 130 rfl) rfl
theorem q1135 : (Jvm.Cond.methodLink "QuorumAlmanac$Node" (224 : Nat) ({ cls := "QuorumAlmanac$Members", name := "isMajority", desc := "(I)Z" } : Jvm.MethodName)) ∈ lw_all := lw_g (lw_at lw_m5 131 rfl) rfl
theorem q1148 : (Jvm.Cond.methodLink "QuorumAlmanac$Node" (157 : Nat) ({ cls := "java/util/ArrayList", name := "iterator", desc := "()Ljava/util/Iterator;" } : Jvm.MethodName)) ∈ lw_all := lw_g (lw_at lw_m5 144 rfl) rfl
theorem q1171 : (Jvm.Cond.interfaceEntry "QuorumAlmanac$Node" (161 : Nat)) ∈ lw_tbl := lw_at lw_m5 167 rfl
theorem q1172 : (Jvm.Cond.methodLink "QuorumAlmanac$Node" (161 : Nat) ({ cls := "java/util/Iterator", name := "hasNext", desc := "()Z" } : Jvm.MethodName)) ∈ lw_all := lw_g (lw_at lw_m5 168 rfl) rfl
theorem q1181 : (Jvm.Cond.interfaceEntry "QuorumAlmanac$Node" (166 : Nat)) ∈ lw_tbl := lw_at lw_m5 177 rfl
theorem q1182 : (Jvm.Cond.methodLink "QuorumAlmanac$Node" (166 : Nat) ({ cls := "java/util/Iterator", name := "next", desc := "()Ljava/lang/Object;" } : Jvm.MethodName)) ∈ lw_all := lw_g (lw_at lw_m5 178 rfl) rfl
theorem q1209 : (Jvm.Cond.classLink "QuorumAlmanac$Node" (169 : Nat) "QuorumAlmanac$Read") ∈ lw_all := lw_g (lw_at lw_m5 205 rfl) rfl
theorem q1210 : (Jvm.Cond.methodLink "QuorumAlmanac$Node" (253 : Nat) ({ cls := "QuorumAlmanac$Node", name := "stand", desc := "()V" } : Jvm.MethodName)) ∈ lw_all := lw_g (lw_at lw_m5 206 rfl) rfl
theorem q1211 : (Jvm.Cond.privateMethod ({ cls := "QuorumAlmanac$Node", name := "stand", desc := "()V" } : Jvm.MethodName)) ∈ lw_tbl := lw_at lw_m5 207 rfl
theorem q1212 : (Jvm.Cond.instanceMethod ({ cls := "QuorumAlmanac$Node", name := "stand", desc := "()V" } : Jvm.MethodName)) ∈ lw_all := lw_g (lw_at lw_m5 208 rfl) rfl
theorem q1213 : (Jvm.Cond.code ({ cls := "QuorumAlmanac$Node", name := "stand", desc := "()V" } : Jvm.MethodName) prog_9_method_14_code (2 : Nat) (Option.none : Option Jvm.ClassFile.FieldType)) ∈ lw_all := lw_g (lw_at lw_m5 209 rfl) rfl
theorem q1214 : (Jvm.Cond.methodLink "QuorumAlmanac$Node" (192 : Nat) ({ cls := "QuorumAlmanac$Node", name := "follow", desc := "(I)V" } : Jvm.MethodName)) ∈ lw_all := lw_g (lw_at lw_m5 210 rfl) rfl
theorem q1215 : (Jvm.Cond.instanceMethod ({ cls := "QuorumAlmanac$Node", name := "follow", desc := "(I)V" } : Jvm.MethodName)) ∈ lw_all := lw_g (lw_at lw_m5 211 rfl) rfl
theorem q1216 : (Jvm.Cond.selects "QuorumAlmanac$Node" ({ cls := "QuorumAlmanac$Node", name := "follow", desc := "(I)V" } : Jvm.MethodName) ({ cls := "QuorumAlmanac$Node", name := "follow", desc := "(I)V" } : Jvm.MethodName)) ∈ lw_all := lw_g (lw_at lw_m5 212 rfl) rfl
theorem q1217 : (Jvm.Cond.code ({ cls := "QuorumAlmanac$Node", name := "follow", desc := "(I)V" } : Jvm.MethodName) prog_9_method_12_code (2 : Nat) (Option.none : Option Jvm.ClassFile.FieldType)) ∈ lw_all := lw_g (lw_at lw_m5 213 rfl) rfl
theorem q1218 : (Jvm.Cond.methodLink "QuorumAlmanac$Node" (129 : Nat) ({ cls := "QuorumAlmanac$Node", name := "stepDown", desc := "()V" } : Jvm.MethodName)) ∈ lw_all := lw_g (lw_at lw_m5 214 rfl) rfl
theorem q1219 : (Jvm.Cond.privateMethod ({ cls := "QuorumAlmanac$Node", name := "stepDown", desc := "()V" } : Jvm.MethodName)) ∈ lw_tbl := lw_at lw_m5 215 rfl
theorem q1220 : (Jvm.Cond.instanceMethod ({ cls := "QuorumAlmanac$Node", name := "stepDown", desc := "()V" } : Jvm.MethodName)) ∈ lw_all := lw_g (lw_at lw_m5 216 rfl) rfl
theorem q1221 : (Jvm.Cond.code ({ cls := "QuorumAlmanac$Node", name := "stepDown", desc := "()V" } : Jvm.MethodName) prog_9_method_11_code (1 : Nat) (Option.none : Option Jvm.ClassFile.FieldType)) ∈ lw_all := lw_g (lw_at lw_m5 217 rfl) rfl
theorem q1222 : (Jvm.Cond.methodLink "QuorumAlmanac$Node" (177 : Nat) ({ cls := "QuorumAlmanac$Node", name := "loseReads", desc := "()V" } : Jvm.MethodName)) ∈ lw_all := lw_g (lw_at lw_m5 218 rfl) rfl
theorem q1223 : (Jvm.Cond.privateMethod ({ cls := "QuorumAlmanac$Node", name := "loseReads", desc := "()V" } : Jvm.MethodName)) ∈ lw_tbl := lw_at lw_m5 219 rfl
theorem q1224 : (Jvm.Cond.instanceMethod ({ cls := "QuorumAlmanac$Node", name := "loseReads", desc := "()V" } : Jvm.MethodName)) ∈ lw_all := lw_g (lw_at lw_m5 220 rfl) rfl
theorem q1225 : (Jvm.Cond.code ({ cls := "QuorumAlmanac$Node", name := "loseReads", desc := "()V" } : Jvm.MethodName) prog_9_method_10_code (3 : Nat) (Option.none : Option Jvm.ClassFile.FieldType)) ∈ lw_all := lw_g (lw_at lw_m5 221 rfl) rfl
theorem q1226 : (Jvm.Cond.classLink "QuorumAlmanac$Node" (205 : Nat) "QuorumAlmanac$Wish") ∈ lw_all := lw_g (lw_at lw_m5 222 rfl) rfl
theorem q1228 : (Jvm.Cond.methodLink "QuorumAlmanac$Node" (214 : Nat) ({ cls := "QuorumAlmanac$Wish", name := "<init>", desc := "(IIIIII)V" } : Jvm.MethodName)) ∈ lw_all := lw_g (lw_at lw_m5 224 rfl) rfl
theorem q1233 : (Jvm.Cond.fieldLink "QuorumAlmanac$Node" (236 : Nat) "QuorumAlmanac$Wish" "lastIndex" "I") ∈ lw_all := lw_g (lw_at lw_m5 229 rfl) rfl
theorem q1235 : (Jvm.Cond.fieldLink "QuorumAlmanac$Node" (233 : Nat) "QuorumAlmanac$Wish" "lastTerm" "I") ∈ lw_all := lw_g (lw_at lw_m5 231 rfl) rfl
theorem q1245 : (Jvm.Cond.methodLink "QuorumAlmanac$Node" (221 : Nat) ({ cls := "QuorumAlmanac$Node", name := "winIfElected", desc := "()V" } : Jvm.MethodName)) ∈ lw_all := lw_g (lw_at lw_m6 1 rfl) rfl
theorem q1246 : (Jvm.Cond.instanceMethod ({ cls := "QuorumAlmanac$Node", name := "winIfElected", desc := "()V" } : Jvm.MethodName)) ∈ lw_all := lw_g (lw_at lw_m6 2 rfl) rfl
theorem q1247 : (Jvm.Cond.selects "QuorumAlmanac$Node" ({ cls := "QuorumAlmanac$Node", name := "winIfElected", desc := "()V" } : Jvm.MethodName) ({ cls := "QuorumAlmanac$Node", name := "winIfElected", desc := "()V" } : Jvm.MethodName)) ∈ lw_all := lw_g (lw_at lw_m6 3 rfl) rfl
theorem q1248 : (Jvm.Cond.code ({ cls := "QuorumAlmanac$Node", name := "winIfElected", desc := "()V" } : Jvm.MethodName) prog_9_method_15_code (2 : Nat) (Option.none : Option Jvm.ClassFile.FieldType)) ∈ lw_all := lw_g (lw_at lw_m6 4 rfl) rfl
theorem q1249 : (Jvm.Cond.methodLink "QuorumAlmanac$Node" (227 : Nat) ({ cls := "java/util/ArrayList", name := "clear", desc := "()V" } : Jvm.MethodName)) ∈ lw_all := lw_g (lw_at lw_m6 5 rfl) rfl
theorem q1254 : (Jvm.Cond.methodLink "QuorumAlmanac$Node" (147 : Nat) ({ cls := "QuorumAlmanac$Entry", name := "<init>", desc := "(ICII)V" } : Jvm.MethodName)) ∈ lw_all := lw_g (lw_at lw_m6 10 rfl) rfl
theorem q1259 : (Jvm.Cond.fieldLink "QuorumAlmanac$Node" (95 : Nat) "QuorumAlmanac$Entry" "term" "I") ∈ lw_all := lw_g (lw_at lw_m6 15 rfl) rfl
theorem q1263 : (Jvm.Cond.fieldLink "QuorumAlmanac$Node" (96 : Nat) "QuorumAlmanac$Entry" "kind" "C") ∈ lw_all := lw_g (lw_at lw_m6 19 rfl) rfl
theorem q1267 : (Jvm.Cond.fieldLink "QuorumAlmanac$Node" (104 : Nat) "QuorumAlmanac$Entry" "first" "I") ∈ lw_all := lw_g (lw_at lw_m6 23 rfl) rfl
theorem q1270 : (Jvm.Cond.fieldLink "QuorumAlmanac$Node" (101 : Nat) "QuorumAlmanac$Entry" "second" "I") ∈ lw_all := lw_g (lw_at lw_m6 26 rfl) rfl
theorem q1288 : (Jvm.Cond.instanceMethod ({ cls := "QuorumAlmanac$Node", name := "sync", desc := "()I" } : Jvm.MethodName)) ∈ lw_all := lw_g (lw_at lw_m6 44 rfl) rfl
theorem q1289 : (Jvm.Cond.selects "QuorumAlmanac$Node" ({ cls := "QuorumAlmanac$Node", name := "sync", desc := "()I" } : Jvm.MethodName) ({ cls := "QuorumAlmanac$Node", name := "sync", desc := "()I" } : Jvm.MethodName)) ∈ lw_all := lw_g (lw_at lw_m6 45 rfl) rfl
theorem q1290 : (Jvm.Cond.code ({ cls := "QuorumAlmanac$Node", name := "sync", desc := "()I" } : Jvm.MethodName) prog_9_method_34_code (2 : Nat) (Option.some Jvm.ClassFile.FieldType.int)) ∈ lw_all := lw_g (lw_at lw_m6 46 rfl) rfl
theorem q1291 : (Jvm.Cond.methodLink "QuorumAlmanac$Node" (363 : Nat) ({ cls := "QuorumAlmanac$Node", name := "commitWhatAgrees", desc := "()V" } : Jvm.MethodName)) ∈ lw_all := lw_g (lw_at lw_m6 47 rfl) rfl
theorem q1292 : (Jvm.Cond.privateMethod ({ cls := "QuorumAlmanac$Node", name := "commitWhatAgrees", desc := "()V" } : Jvm.MethodName)) ∈ lw_tbl := lw_at lw_m6 48 rfl
theorem q1293 : (Jvm.Cond.instanceMethod ({ cls := "QuorumAlmanac$Node", name := "commitWhatAgrees", desc := "()V" } : Jvm.MethodName)) ∈ lw_all := lw_g (lw_at lw_m6 49 rfl) rfl
theorem q1294 : (Jvm.Cond.code ({ cls := "QuorumAlmanac$Node", name := "commitWhatAgrees", desc := "()V" } : Jvm.MethodName) prog_9_method_28_code (4 : Nat) (Option.none : Option Jvm.ClassFile.FieldType)) ∈ lw_all := lw_g (lw_at lw_m6 50 rfl) rfl
theorem q1295 : (Jvm.Cond.methodLink "QuorumAlmanac$Node" (343 : Nat) ({ cls := "QuorumAlmanac$Node", name := "commitUpTo", desc := "(I)V" } : Jvm.MethodName)) ∈ lw_all := lw_g (lw_at lw_m6 51 rfl) rfl
theorem q1296 : (Jvm.Cond.privateMethod ({ cls := "QuorumAlmanac$Node", name := "commitUpTo", desc := "(I)V" } : Jvm.MethodName)) ∈ lw_tbl := lw_at lw_m6 52 rfl
theorem q1297 : (Jvm.Cond.instanceMethod ({ cls := "QuorumAlmanac$Node", name := "commitUpTo", desc := "(I)V" } : Jvm.MethodName)) ∈ lw_all := lw_g (lw_at lw_m6 53 rfl) rfl
theorem q1298 : (Jvm.Cond.code ({ cls := "QuorumAlmanac$Node", name := "commitUpTo", desc := "(I)V" } : Jvm.MethodName) prog_9_method_8_code (3 : Nat) (Option.none : Option Jvm.ClassFile.FieldType)) ∈ lw_all := lw_g (lw_at lw_m6 54 rfl) rfl
theorem q1299 : (Jvm.Cond.methodLinkNest "QuorumAlmanac$Node" (117 : Nat) ({ cls := "QuorumAlmanac", name := "note", desc := "(ILQuorumAlmanac$Entry;)V" } : Jvm.MethodName) "QuorumAlmanac") ∈ lw_tbl := lw_at lw_m6 55 rfl
theorem q1303 : (Jvm.Cond.methodLink "QuorumAlmanac$Node" (121 : Nat) ({ cls := "QuorumAlmanac$Store", name := "apply", desc := "(LQuorumAlmanac$Entry;)V" } : Jvm.MethodName)) ∈ lw_all := lw_g (lw_at lw_m6 59 rfl) rfl
theorem q1311 : (Jvm.Cond.methodLink "QuorumAlmanac$Node" (366 : Nat) ({ cls := "QuorumAlmanac$Node", name := "finishChange", desc := "()V" } : Jvm.MethodName)) ∈ lw_all := lw_g (lw_at lw_m6 67 rfl) rfl
theorem q1312 : (Jvm.Cond.privateMethod ({ cls := "QuorumAlmanac$Node", name := "finishChange", desc := "()V" } : Jvm.MethodName)) ∈ lw_tbl := lw_at lw_m6 68 rfl
theorem q1313 : (Jvm.Cond.instanceMethod ({ cls := "QuorumAlmanac$Node", name := "finishChange", desc := "()V" } : Jvm.MethodName)) ∈ lw_all := lw_g (lw_at lw_m6 69 rfl) rfl
theorem q1314 : (Jvm.Cond.code ({ cls := "QuorumAlmanac$Node", name := "finishChange", desc := "()V" } : Jvm.MethodName) prog_9_method_9_code (2 : Nat) (Option.none : Option Jvm.ClassFile.FieldType)) ∈ lw_all := lw_g (lw_at lw_m6 70 rfl) rfl
theorem q1315 : (Jvm.Cond.methodLink "QuorumAlmanac$Node" (132 : Nat) ({ cls := "QuorumAlmanac$Node", name := "has", desc := "(I)Z" } : Jvm.MethodName)) ∈ lw_all := lw_g (lw_at lw_m6 71 rfl) rfl
theorem q1316 : (Jvm.Cond.instanceMethod ({ cls := "QuorumAlmanac$Node", name := "has", desc := "(I)Z" } : Jvm.MethodName)) ∈ lw_all := lw_g (lw_at lw_m6 72 rfl) rfl
theorem q1317 : (Jvm.Cond.selects "QuorumAlmanac$Node" ({ cls := "QuorumAlmanac$Node", name := "has", desc := "(I)Z" } : Jvm.MethodName) ({ cls := "QuorumAlmanac$Node", name := "has", desc := "(I)Z" } : Jvm.MethodName)) ∈ lw_all := lw_g (lw_at lw_m6 73 rfl) rfl
theorem q1318 : (Jvm.Cond.code ({ cls := "QuorumAlmanac$Node", name := "has", desc := "(I)Z" } : Jvm.MethodName) prog_9_method_3_code (2 : Nat) (Option.some Jvm.ClassFile.FieldType.boolean)) ∈ lw_all := lw_g (lw_at lw_m6 74 rfl) rfl
theorem q1319 : (Jvm.Cond.methodLink "QuorumAlmanac$Node" (139 : Nat) ({ cls := "QuorumAlmanac$Members", name := "areTwo", desc := "()Z" } : Jvm.MethodName)) ∈ lw_all := lw_g (lw_at lw_m6 75 rfl) rfl
theorem q1323 : (Jvm.Cond.classLink "QuorumAlmanac$Node" (285 : Nat) "QuorumAlmanac$Answer") ∈ lw_all := lw_g (lw_at lw_m6 79 rfl) rfl
theorem q1325 : (Jvm.Cond.methodLink "QuorumAlmanac$Node" (318 : Nat) ({ cls := "java/lang/Math", name := "min", desc := "(II)I" } : Jvm.MethodName)) ∈ lw_all := lw_g (lw_at lw_m6 81 rfl) rfl
theorem q1326 : (Jvm.Cond.methodLink "QuorumAlmanac$Node" (287 : Nat) ({ cls := "QuorumAlmanac$Answer", name := "<init>", desc := "(IIIIICI)V" } : Jvm.MethodName)) ∈ lw_all := lw_g (lw_at lw_m6 82 rfl) rfl
theorem q1331 : (Jvm.Cond.fieldLink "QuorumAlmanac$Node" (358 : Nat) "QuorumAlmanac$Answer" "how" "C") ∈ lw_all := lw_g (lw_at lw_m6 87 rfl) rfl
theorem q1333 : (Jvm.Cond.fieldLink "QuorumAlmanac$Node" (361 : Nat) "QuorumAlmanac$Answer" "index" "I") ∈ lw_all := lw_g (lw_at lw_m6 89 rfl) rfl
theorem q1352 : (Jvm.Cond.instanceMethod ({ cls := "QuorumAlmanac$Node", name := "crash", desc := "()I" } : Jvm.MethodName)) ∈ lw_all := lw_g (lw_at lw_m6 108 rfl) rfl
theorem q1353 : (Jvm.Cond.selects "QuorumAlmanac$Node" ({ cls := "QuorumAlmanac$Node", name := "crash", desc := "()I" } : Jvm.MethodName) ({ cls := "QuorumAlmanac$Node", name := "crash", desc := "()I" } : Jvm.MethodName)) ∈ lw_all := lw_g (lw_at lw_m6 109 rfl) rfl
theorem q1354 : (Jvm.Cond.code ({ cls := "QuorumAlmanac$Node", name := "crash", desc := "()I" } : Jvm.MethodName) prog_9_method_35_code (2 : Nat) (Option.some Jvm.ClassFile.FieldType.int)) ∈ lw_all := lw_g (lw_at lw_m6 110 rfl) rfl
theorem q1355 : (Jvm.Cond.methodLink "QuorumAlmanac$Node" (336 : Nat) ({ cls := "QuorumAlmanac$Node", name := "cut", desc := "(I)V" } : Jvm.MethodName)) ∈ lw_all := lw_g (lw_at lw_m6 111 rfl) rfl
theorem q1356 : (Jvm.Cond.privateMethod ({ cls := "QuorumAlmanac$Node", name := "cut", desc := "(I)V" } : Jvm.MethodName)) ∈ lw_tbl := lw_at lw_m6 112 rfl
theorem q1357 : (Jvm.Cond.instanceMethod ({ cls := "QuorumAlmanac$Node", name := "cut", desc := "(I)V" } : Jvm.MethodName)) ∈ lw_all := lw_g (lw_at lw_m6 113 rfl) rfl
theorem q1358 : (Jvm.Cond.code ({ cls := "QuorumAlmanac$Node", name := "cut", desc := "(I)V" } : Jvm.MethodName) prog_9_method_25_code (2 : Nat) (Option.none : Option Jvm.ClassFile.FieldType)) ∈ lw_all := lw_g (lw_at lw_m6 114 rfl) rfl
theorem q1359 : (Jvm.Cond.methodLink "QuorumAlmanac$Node" (346 : Nat) ({ cls := "java/util/ArrayList", name := "remove", desc := "(I)Ljava/lang/Object;" } : Jvm.MethodName)) ∈ lw_all := lw_g (lw_at lw_m6 115 rfl) rfl
theorem q1360 : (Jvm.Cond.methodLink "QuorumAlmanac$Node" (351 : Nat) ({ cls := "QuorumAlmanac$Store", name := "copy", desc := "()LQuorumAlmanac$Store;" } : Jvm.MethodName)) ∈ lw_all := lw_g (lw_at lw_m6 116 rfl) rfl
theorem q1374 : (Jvm.Cond.instanceMethod ({ cls := "QuorumAlmanac$Node", name := "start", desc := "()I" } : Jvm.MethodName)) ∈ lw_all := lw_g (lw_at lw_m6 130 rfl) rfl
theorem q1375 : (Jvm.Cond.selects "QuorumAlmanac$Node" ({ cls := "QuorumAlmanac$Node", name := "start", desc := "()I" } : Jvm.MethodName) ({ cls := "QuorumAlmanac$Node", name := "start", desc := "()I" } : Jvm.MethodName)) ∈ lw_all := lw_g (lw_at lw_m6 131 rfl) rfl
theorem q1376 : (Jvm.Cond.code ({ cls := "QuorumAlmanac$Node", name := "start", desc := "()I" } : Jvm.MethodName) prog_9_method_36_code (5 : Nat) (Option.some Jvm.ClassFile.FieldType.int)) ∈ lw_all := lw_g (lw_at lw_m6 132 rfl) rfl
theorem q1377 : (Jvm.Cond.methodLink "QuorumAlmanac$Node" (339 : Nat) ({ cls := "java/lang/Math", name := "max", desc := "(II)I" } : Jvm.MethodName)) ∈ lw_all := lw_g (lw_at lw_m6 133 rfl) rfl
theorem q1386 : (Jvm.Cond.instanceMethod ({ cls := "QuorumAlmanac$Node", name := "compact", desc := "()I" } : Jvm.MethodName)) ∈ lw_all := lw_g (lw_at lw_m6 142 rfl) rfl
theorem q1387 : (Jvm.Cond.selects "QuorumAlmanac$Node" ({ cls := "QuorumAlmanac$Node", name := "compact", desc := "()I" } : Jvm.MethodName) ({ cls := "QuorumAlmanac$Node", name := "compact", desc := "()I" } : Jvm.MethodName)) ∈ lw_all := lw_g (lw_at lw_m6 143 rfl) rfl
theorem q1388 : (Jvm.Cond.code ({ cls := "QuorumAlmanac$Node", name := "compact", desc := "()I" } : Jvm.MethodName) prog_9_method_37_code (5 : Nat) (Option.some Jvm.ClassFile.FieldType.int)) ∈ lw_all := lw_g (lw_at lw_m6 144 rfl) rfl
theorem q1389 : (Jvm.Cond.methodLink "QuorumAlmanac$Node" (398 : Nat) ({ cls := "QuorumAlmanac$Node", name := "membersAt", desc := "(I)LQuorumAlmanac$Members;" } : Jvm.MethodName)) ∈ lw_all := lw_g (lw_at lw_m6 145 rfl) rfl
theorem q1390 : (Jvm.Cond.privateMethod ({ cls := "QuorumAlmanac$Node", name := "membersAt", desc := "(I)LQuorumAlmanac$Members;" } : Jvm.MethodName)) ∈ lw_tbl := lw_at lw_m6 146 rfl
theorem q1391 : (Jvm.Cond.instanceMethod ({ cls := "QuorumAlmanac$Node", name := "membersAt", desc := "(I)LQuorumAlmanac$Members;" } : Jvm.MethodName)) ∈ lw_all := lw_g (lw_at lw_m6 147 rfl) rfl
theorem q1392 : (Jvm.Cond.code ({ cls := "QuorumAlmanac$Node", name := "membersAt", desc := "(I)LQuorumAlmanac$Members;" } : Jvm.MethodName) prog_9_method_7_code (4 : Nat) (Option.some (Jvm.ClassFile.FieldType.object "QuorumAlmanac$Members"))) ∈ lw_all := lw_g (lw_at lw_m6 148 rfl) rfl
theorem q1561 : (Jvm.Cond.instanceMethod ({ cls := "QuorumAlmanac$Node", name := "take", desc := "(LQuorumAlmanac$Answer;)V" } : Jvm.MethodName)) ∈ lw_all := lw_g (lw_at lw_m7 77 rfl) rfl
theorem q1562 : (Jvm.Cond.selects "QuorumAlmanac$Node" ({ cls := "QuorumAlmanac$Node", name := "take", desc := "(LQuorumAlmanac$Answer;)V" } : Jvm.MethodName) ({ cls := "QuorumAlmanac$Node", name := "take", desc := "(LQuorumAlmanac$Answer;)V" } : Jvm.MethodName)) ∈ lw_all := lw_g (lw_at lw_m7 78 rfl) rfl
theorem q1563 : (Jvm.Cond.code ({ cls := "QuorumAlmanac$Node", name := "take", desc := "(LQuorumAlmanac$Answer;)V" } : Jvm.MethodName) prog_9_method_27_code (3 : Nat) (Option.none : Option Jvm.ClassFile.FieldType)) ∈ lw_all := lw_g (lw_at lw_m7 79 rfl) rfl
theorem q1574 : (Jvm.Cond.instanceMethod ({ cls := "QuorumAlmanac$Node", name := "lower", desc := "(LQuorumAlmanac$RoundMessage;)V" } : Jvm.MethodName)) ∈ lw_all := lw_g (lw_at lw_m7 90 rfl) rfl
theorem q1575 : (Jvm.Cond.selects "QuorumAlmanac$Node" ({ cls := "QuorumAlmanac$Node", name := "lower", desc := "(LQuorumAlmanac$RoundMessage;)V" } : Jvm.MethodName) ({ cls := "QuorumAlmanac$Node", name := "lower", desc := "(LQuorumAlmanac$RoundMessage;)V" } : Jvm.MethodName)) ∈ lw_all := lw_g (lw_at lw_m7 91 rfl) rfl
theorem q1576 : (Jvm.Cond.code ({ cls := "QuorumAlmanac$Node", name := "lower", desc := "(LQuorumAlmanac$RoundMessage;)V" } : Jvm.MethodName) prog_9_method_21_code (2 : Nat) (Option.none : Option Jvm.ClassFile.FieldType)) ∈ lw_all := lw_g (lw_at lw_m7 92 rfl) rfl
theorem q1579 : (Jvm.Cond.instanceMethod ({ cls := "QuorumAlmanac$Node", name := "hear", desc := "(LQuorumAlmanac$RoundMessage;)V" } : Jvm.MethodName)) ∈ lw_all := lw_g (lw_at lw_m7 95 rfl) rfl
theorem q1580 : (Jvm.Cond.selects "QuorumAlmanac$Node" ({ cls := "QuorumAlmanac$Node", name := "hear", desc := "(LQuorumAlmanac$RoundMessage;)V" } : Jvm.MethodName) ({ cls := "QuorumAlmanac$Node", name := "hear", desc := "(LQuorumAlmanac$RoundMessage;)V" } : Jvm.MethodName)) ∈ lw_all := lw_g (lw_at lw_m7 96 rfl) rfl
theorem q1581 : (Jvm.Cond.code ({ cls := "QuorumAlmanac$Node", name := "hear", desc := "(LQuorumAlmanac$RoundMessage;)V" } : Jvm.MethodName) prog_9_method_20_code (2 : Nat) (Option.none : Option Jvm.ClassFile.FieldType)) ∈ lw_all := lw_g (lw_at lw_m7 97 rfl) rfl
theorem q1583 : (Jvm.Cond.instanceMethod ({ cls := "QuorumAlmanac$Node", name := "append", desc := "(LQuorumAlmanac$Append;)V" } : Jvm.MethodName)) ∈ lw_all := lw_g (lw_at lw_m7 99 rfl) rfl
theorem q1584 : (Jvm.Cond.selects "QuorumAlmanac$Node" ({ cls := "QuorumAlmanac$Node", name := "append", desc := "(LQuorumAlmanac$Append;)V" } : Jvm.MethodName) ({ cls := "QuorumAlmanac$Node", name := "append", desc := "(LQuorumAlmanac$Append;)V" } : Jvm.MethodName)) ∈ lw_all := lw_g (lw_at lw_m7 100 rfl) rfl
theorem q1585 : (Jvm.Cond.codeWith ({ cls := "QuorumAlmanac$Node", name := "append", desc := "(LQuorumAlmanac$Append;)V" } : Jvm.MethodName) prog_9_method_23_code (6 : Nat) (Option.none : Option Jvm.ClassFile.FieldType) [((5 : Nat), (30 : Nat), (72 : Nat), (293 : Nat)), ((5 : Nat), (30 : Nat), (147 : Nat), (0 : Nat)), ((72 : Nat), (105 : Nat), (147 : Nat), (0 : Nat)), ((147 : Nat), (149 : Nat), (147 : Nat), (0 : Nat))]) ∈ lw_all := lw_g (lw_at lw_m7 101 rfl) rfl
theorem q1586 : (Jvm.Cond.classLink "QuorumAlmanac$Node" (293 : Nat) "QuorumAlmanac$Refused") ∈ lw_all := lw_g (lw_at lw_m7 102 rfl) rfl
theorem q1587 : (Jvm.Cond.methodLink "QuorumAlmanac$Node" (309 : Nat) ({ cls := "QuorumAlmanac$Node", name := "check", desc := "(LQuorumAlmanac$Append;)V" } : Jvm.MethodName)) ∈ lw_all := lw_g (lw_at lw_m7 103 rfl) rfl
theorem q1588 : (Jvm.Cond.privateMethod ({ cls := "QuorumAlmanac$Node", name := "check", desc := "(LQuorumAlmanac$Append;)V" } : Jvm.MethodName)) ∈ lw_tbl := lw_at lw_m7 104 rfl
theorem q1589 : (Jvm.Cond.instanceMethod ({ cls := "QuorumAlmanac$Node", name := "check", desc := "(LQuorumAlmanac$Append;)V" } : Jvm.MethodName)) ∈ lw_all := lw_g (lw_at lw_m7 105 rfl) rfl
theorem q1590 : (Jvm.Cond.codeWith ({ cls := "QuorumAlmanac$Node", name := "check", desc := "(LQuorumAlmanac$Append;)V" } : Jvm.MethodName) prog_9_method_22_code (4 : Nat) (Option.none : Option Jvm.ClassFile.FieldType) [((41 : Nat), (71 : Nat), (74 : Nat), (307 : Nat)), ((41 : Nat), (71 : Nat), (74 : Nat), (304 : Nat))]) ∈ lw_all := lw_g (lw_at lw_m7 106 rfl) rfl
theorem q1591 : (Jvm.Cond.classLink "QuorumAlmanac$Node" (307 : Nat) "java/lang/IndexOutOfBoundsException") ∈ lw_all := lw_g (lw_at lw_m7 107 rfl) rfl
theorem q1592 : (Jvm.Cond.classLink "QuorumAlmanac$Node" (304 : Nat) "java/lang/IllegalArgumentException") ∈ lw_all := lw_g (lw_at lw_m7 108 rfl) rfl
theorem q1601 : (Jvm.Cond.classLink "QuorumAlmanac$Node" (295 : Nat) "java/lang/IllegalStateException") ∈ lw_all := lw_g (lw_at lw_m7 117 rfl) rfl
theorem q1602 : (Jvm.Cond.methodLink "QuorumAlmanac$Node" (297 : Nat) ({ cls := "java/lang/IllegalStateException", name := "<init>", desc := "()V" } : Jvm.MethodName)) ∈ lw_all := lw_g (lw_at lw_m7 118 rfl) rfl
theorem q1603 : (Jvm.Cond.methodLink "QuorumAlmanac$Node" (298 : Nat) ({ cls := "QuorumAlmanac$Refused", name := "<init>", desc := "(ILjava/lang/RuntimeException;)V" } : Jvm.MethodName)) ∈ lw_all := lw_g (lw_at lw_m7 119 rfl) rfl
theorem q1613 : (Jvm.Cond.fieldLink "QuorumAlmanac$Node" (330 : Nat) "QuorumAlmanac$Refused" "hint" "I") ∈ lw_all := lw_g (lw_at lw_m7 129 rfl) rfl
theorem q1626 : (Jvm.Cond.methodLink "QuorumAlmanac$Node" (306 : Nat) ({ cls := "java/lang/IllegalArgumentException", name := "<init>", desc := "()V" } : Jvm.MethodName)) ∈ lw_all := lw_g (lw_at lw_m7 142 rfl) rfl
theorem q1632 : (Jvm.Cond.methodLink "QuorumAlmanac$Node" (313 : Nat) ({ cls := "QuorumAlmanac$Node", name := "add", desc := "(LQuorumAlmanac$Append;)V" } : Jvm.MethodName)) ∈ lw_all := lw_g (lw_at lw_m7 148 rfl) rfl
theorem q1633 : (Jvm.Cond.privateMethod ({ cls := "QuorumAlmanac$Node", name := "add", desc := "(LQuorumAlmanac$Append;)V" } : Jvm.MethodName)) ∈ lw_tbl := lw_at lw_m7 149 rfl
theorem q1634 : (Jvm.Cond.instanceMethod ({ cls := "QuorumAlmanac$Node", name := "add", desc := "(LQuorumAlmanac$Append;)V" } : Jvm.MethodName)) ∈ lw_all := lw_g (lw_at lw_m7 150 rfl) rfl
theorem q1635 : (Jvm.Cond.code ({ cls := "QuorumAlmanac$Node", name := "add", desc := "(LQuorumAlmanac$Append;)V" } : Jvm.MethodName) prog_9_method_24_code (5 : Nat) (Option.none : Option Jvm.ClassFile.FieldType)) ∈ lw_all := lw_g (lw_at lw_m7 151 rfl) rfl
theorem q1636 : (Jvm.Cond.methodLink "QuorumAlmanac$Node" (326 : Nat) ({ cls := "QuorumAlmanac$Refused", name := "getCause", desc := "()Ljava/lang/Throwable;" } : Jvm.MethodName)) ∈ lw_all := lw_g (lw_at lw_m7 152 rfl) rfl
theorem q1649 : (Jvm.Cond.instanceMethod ({ cls := "QuorumAlmanac$Node", name := "install", desc := "(LQuorumAlmanac$Install;)V" } : Jvm.MethodName)) ∈ lw_all := lw_g (lw_at lw_m7 165 rfl) rfl
theorem q1650 : (Jvm.Cond.selects "QuorumAlmanac$Node" ({ cls := "QuorumAlmanac$Node", name := "install", desc := "(LQuorumAlmanac$Install;)V" } : Jvm.MethodName) ({ cls := "QuorumAlmanac$Node", name := "install", desc := "(LQuorumAlmanac$Install;)V" } : Jvm.MethodName)) ∈ lw_all := lw_g (lw_at lw_m7 166 rfl) rfl
theorem q1651 : (Jvm.Cond.code ({ cls := "QuorumAlmanac$Node", name := "install", desc := "(LQuorumAlmanac$Install;)V" } : Jvm.MethodName) prog_9_method_26_code (3 : Nat) (Option.none : Option Jvm.ClassFile.FieldType)) ∈ lw_all := lw_g (lw_at lw_m7 167 rfl) rfl
theorem q1662 : (Jvm.Cond.instanceMethod ({ cls := "QuorumAlmanac$Node", name := "isBound", desc := "()Z" } : Jvm.MethodName)) ∈ lw_all := lw_g (lw_at lw_m7 178 rfl) rfl
theorem q1663 : (Jvm.Cond.selects "QuorumAlmanac$Node" ({ cls := "QuorumAlmanac$Node", name := "isBound", desc := "()Z" } : Jvm.MethodName) ({ cls := "QuorumAlmanac$Node", name := "isBound", desc := "()Z" } : Jvm.MethodName)) ∈ lw_all := lw_g (lw_at lw_m7 179 rfl) rfl
theorem q1664 : (Jvm.Cond.code ({ cls := "QuorumAlmanac$Node", name := "isBound", desc := "()Z" } : Jvm.MethodName) prog_9_method_13_code (1 : Nat) (Option.some Jvm.ClassFile.FieldType.boolean)) ∈ lw_all := lw_g (lw_at lw_m7 180 rfl) rfl
theorem q1665 : (Jvm.Cond.methodLink "QuorumAlmanac$Node" (189 : Nat) ({ cls := "QuorumAlmanac$Node", name := "hasLease", desc := "()Z" } : Jvm.MethodName)) ∈ lw_all := lw_g (lw_at lw_m7 181 rfl) rfl
theorem q1666 : (Jvm.Cond.instanceMethod ({ cls := "QuorumAlmanac$Node", name := "hasLease", desc := "()Z" } : Jvm.MethodName)) ∈ lw_all := lw_g (lw_at lw_m7 182 rfl) rfl
theorem q1667 : (Jvm.Cond.selects "QuorumAlmanac$Node" ({ cls := "QuorumAlmanac$Node", name := "hasLease", desc := "()Z" } : Jvm.MethodName) ({ cls := "QuorumAlmanac$Node", name := "hasLease", desc := "()Z" } : Jvm.MethodName)) ∈ lw_all := lw_g (lw_at lw_m7 183 rfl) rfl
theorem q1668 : (Jvm.Cond.code ({ cls := "QuorumAlmanac$Node", name := "hasLease", desc := "()Z" } : Jvm.MethodName) prog_9_method_32_code (2 : Nat) (Option.some Jvm.ClassFile.FieldType.boolean)) ∈ lw_all := lw_g (lw_at lw_m7 184 rfl) rfl
theorem q1669 : (Jvm.Cond.methodLink "QuorumAlmanac$Node" (372 : Nat) ({ cls := "QuorumAlmanac$Node", name := "hasCommittedOwn", desc := "()Z" } : Jvm.MethodName)) ∈ lw_all := lw_g (lw_at lw_m7 185 rfl) rfl
theorem q1670 : (Jvm.Cond.instanceMethod ({ cls := "QuorumAlmanac$Node", name := "hasCommittedOwn", desc := "()Z" } : Jvm.MethodName)) ∈ lw_all := lw_g (lw_at lw_m7 186 rfl) rfl
theorem q1671 : (Jvm.Cond.selects "QuorumAlmanac$Node" ({ cls := "QuorumAlmanac$Node", name := "hasCommittedOwn", desc := "()Z" } : Jvm.MethodName) ({ cls := "QuorumAlmanac$Node", name := "hasCommittedOwn", desc := "()Z" } : Jvm.MethodName)) ∈ lw_all := lw_g (lw_at lw_m7 187 rfl) rfl
theorem q1672 : (Jvm.Cond.code ({ cls := "QuorumAlmanac$Node", name := "hasCommittedOwn", desc := "()Z" } : Jvm.MethodName) prog_9_method_31_code (1 : Nat) (Option.some Jvm.ClassFile.FieldType.boolean)) ∈ lw_all := lw_g (lw_at lw_m7 188 rfl) rfl
theorem q1675 : (Jvm.Cond.instanceMethod ({ cls := "QuorumAlmanac$Node", name := "answerWish", desc := "(LQuorumAlmanac$Wish;)V" } : Jvm.MethodName)) ∈ lw_all := lw_g (lw_at lw_m7 191 rfl) rfl
theorem q1676 : (Jvm.Cond.selects "QuorumAlmanac$Node" ({ cls := "QuorumAlmanac$Node", name := "answerWish", desc := "(LQuorumAlmanac$Wish;)V" } : Jvm.MethodName) ({ cls := "QuorumAlmanac$Node", name := "answerWish", desc := "(LQuorumAlmanac$Wish;)V" } : Jvm.MethodName)) ∈ lw_all := lw_g (lw_at lw_m7 192 rfl) rfl
theorem q1677 : (Jvm.Cond.code ({ cls := "QuorumAlmanac$Node", name := "answerWish", desc := "(LQuorumAlmanac$Wish;)V" } : Jvm.MethodName) prog_9_method_16_code (4 : Nat) (Option.none : Option Jvm.ClassFile.FieldType)) ∈ lw_all := lw_g (lw_at lw_m7 193 rfl) rfl
theorem q1678 : (Jvm.Cond.classLink "QuorumAlmanac$Node" (243 : Nat) "QuorumAlmanac$Voice") ∈ lw_all := lw_g (lw_at lw_m7 194 rfl) rfl
theorem q1680 : (Jvm.Cond.methodLink "QuorumAlmanac$Node" (245 : Nat) ({ cls := "QuorumAlmanac$Voice", name := "<init>", desc := "(IIIIZ)V" } : Jvm.MethodName)) ∈ lw_all := lw_g (lw_at lw_m7 196 rfl) rfl
theorem q1822 : (Jvm.Cond.fieldLink "QuorumAlmanac$Node" (171 : Nat) "QuorumAlmanac$Read" "node" "I") ∈ lw_all := lw_g (lw_at lw_m8 98 rfl) rfl
theorem q1825 : (Jvm.Cond.fieldLink "QuorumAlmanac$Node" (378 : Nat) "QuorumAlmanac$Read" "round" "I") ∈ lw_all := lw_g (lw_at lw_m8 101 rfl) rfl
theorem q1827 : (Jvm.Cond.fieldLink "QuorumAlmanac$Node" (382 : Nat) "QuorumAlmanac$Read" "key" "I") ∈ lw_all := lw_g (lw_at lw_m8 103 rfl) rfl
theorem q1829 : (Jvm.Cond.fieldLink "QuorumAlmanac$Node" (391 : Nat) "QuorumAlmanac$Read" "historyThen" "I") ∈ lw_all := lw_g (lw_at lw_m8 105 rfl) rfl
theorem q1831 : (Jvm.Cond.fieldLink "QuorumAlmanac$Node" (174 : Nat) "QuorumAlmanac$Read" "state" "C") ∈ lw_all := lw_g (lw_at lw_m8 107 rfl) rfl
theorem q1833 : (Jvm.Cond.fieldLink "QuorumAlmanac$Node" (385 : Nat) "QuorumAlmanac$Read" "value" "I") ∈ lw_all := lw_g (lw_at lw_m8 109 rfl) rfl
theorem q2637 : (Jvm.Cond.castable "QuorumAlmanac$Node" "java/lang/Object") ∈ lw_tbl := lw_at lw_m11 193 rfl
theorem in_X2 : ∀ w ∈ wsX20, w ∈ lw_all := lw_in wsX20 [261, 263, 265, 267, 269, 271, 273, 275, 277, 279, 281, 283, 285, 287, 289, 291, 293, 295, 297, 299, 301, 303] (by decide +kernel) (by decide +kernel)
