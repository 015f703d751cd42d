/-! QuorumAlmanacModel$Node -/
set_option maxRecDepth 100000
def RX7 : String := "QuorumAlmanacModel$Node"
def TX7 : u_T := fun k => match k with
  | 0 => ("QuorumAlmanacModel$Node", "number", "I", true)
  | 1 => ("QuorumAlmanacModel$Node", "clock", "I", false)
  | 2 => ("QuorumAlmanacModel$Node", "term", "I", false)
  | 3 => ("QuorumAlmanacModel$Node", "vote", "I", false)
  | 4 => ("QuorumAlmanacModel$Node", "role", "C", false)
  | 5 => ("QuorumAlmanacModel$Node", "runs", "Z", false)
  | 6 => ("QuorumAlmanacModel$Node", "snapshot", "LQuorumAlmanacModel$Snapshot;", false)
  | 7 => ("QuorumAlmanacModel$Node", "log", "Ljava/util/ArrayList;", false)
  | 8 => ("QuorumAlmanacModel$Node", "synced", "I", false)
  | 9 => ("QuorumAlmanacModel$Node", "committed", "I", false)
  | 10 => ("QuorumAlmanacModel$Node", "store", "LQuorumAlmanacModel$Store;", false)
  | 11 => ("QuorumAlmanacModel$Node", "heard", "I", false)
  | 12 => ("QuorumAlmanacModel$Node", "contact", "I", false)
  | 13 => ("QuorumAlmanacModel$Node", "leader", "I", false)
  | 14 => ("QuorumAlmanacModel$Node", "agreed", "I", false)
  | 15 => ("QuorumAlmanacModel$Node", "lastRound", "I", false)
  | 16 => ("QuorumAlmanacModel$Node", "voters", "I", false)
  | 17 => ("QuorumAlmanacModel$Node", "next", "[I", true)
  | 18 => ("QuorumAlmanacModel$Node", "matched", "[I", true)
  | 19 => ("QuorumAlmanacModel$Node", "answered", "[I", true)
  | 20 => ("QuorumAlmanacModel$Node", "begun", "Ljava/util/ArrayList;", false)
  | _ => ("QuorumAlmanacModel$Node", "this$0", "LQuorumAlmanacModel;", true)
def tyX7 : Nat → FieldType := fun k => match k with
  | 0 => .int
  | 1 => .int
  | 2 => .int
  | 3 => .int
  | 4 => .char
  | 5 => .boolean
  | 6 => .object "QuorumAlmanacModel$Snapshot"
  | 7 => .object "java/util/ArrayList"
  | 8 => .int
  | 9 => .int
  | 10 => .object "QuorumAlmanacModel$Store"
  | 11 => .int
  | 12 => .int
  | 13 => .int
  | 14 => .int
  | 15 => .int
  | 16 => .int
  | 17 => .array .int
  | 18 => .array .int
  | 19 => .array .int
  | 20 => .object "java/util/ArrayList"
  | _ => .object "QuorumAlmanacModel"
abbrev wsX70 : List Cond := u_ws RX7 TX7 22
set_option maxRecDepth 100000 in
theorem nmX7 : ∀ a, a < 22 → ∀ b, b < 22 → a ≠ b → (TX7 a).2.1 ≠ (TX7 b).2.1 := by decide +kernel
set_option maxRecDepth 100000 in
theorem tyX7_ok : ∀ k, k < 22 → parseFieldDescriptor (TX7 k).2.2.1 = some (tyX7 k) := by decide +kernel
abbrev cX7_init : ByteArray := prog_22_method_1_code
def yX7_init : MethodName := ⟨RX7, "<init>", "(LQuorumAlmanacModel;II)V"⟩
def dkwX7_init_5 : List UInt8 := [181, 0, 68, 177]
abbrev dktX7_init_5 : List UInt8 := dkwX7_init_5 ++ []
def dkwX7_init_4 : List UInt8 := [3, 187, 0, 58, 89, 183, 0, 60, 183, 0, 61, 181, 0, 64, 42, 187, 0, 58, 89, 183, 0, 60]
abbrev dktX7_init_4 : List UInt8 := dkwX7_init_4 ++ dktX7_init_5
def dkwX7_init_3 : List UInt8 := [42, 187, 0, 27, 89, 183, 0, 29, 181, 0, 50, 42, 28, 181, 0, 53, 42, 187, 0, 56, 89, 3, 3, 29]
abbrev dktX7_init_3 : List UInt8 := dkwX7_init_3 ++ dktX7_init_4
def dkwX7_init_2 : List UInt8 := [181, 0, 37, 42, 8, 188, 10, 181, 0, 40, 42, 8, 188, 10, 181, 0, 44, 42, 8, 188, 10, 181, 0, 47]
abbrev dktX7_init_2 : List UInt8 := dkwX7_init_2 ++ dktX7_init_3
def dkwX7_init_1 : List UInt8 := [181, 0, 23, 42, 187, 0, 27, 89, 183, 0, 29, 181, 0, 30, 42, 17, 252, 24, 181, 0, 34, 42, 2]
abbrev dktX7_init_1 : List UInt8 := dkwX7_init_1 ++ dktX7_init_2
def dkwX7_init_0 : List UInt8 := [42, 43, 181, 0, 3, 42, 183, 0, 9, 42, 2, 181, 0, 15, 42, 16, 102, 181, 0, 19, 42, 4]
abbrev dktX7_init_0 : List UInt8 := dkwX7_init_0 ++ dktX7_init_1
theorem dksX7_init_0 : cX7_init.data.toList.drop 0 = dktX7_init_0 := by decide +kernel
theorem dksX7_init_1 : cX7_init.data.toList.drop 22 = dktX7_init_1 := dk_seg dksX7_init_0 22 rfl rfl
theorem dksX7_init_2 : cX7_init.data.toList.drop 45 = dktX7_init_2 := dk_seg dksX7_init_1 23 rfl rfl
theorem dksX7_init_3 : cX7_init.data.toList.drop 69 = dktX7_init_3 := dk_seg dksX7_init_2 24 rfl rfl
theorem dksX7_init_4 : cX7_init.data.toList.drop 93 = dktX7_init_4 := dk_seg dksX7_init_3 24 rfl rfl
theorem dksX7_init_5 : cX7_init.data.toList.drop 115 = dktX7_init_5 := dk_seg dksX7_init_4 22 rfl rfl
theorem dX7_init_0 : decode cX7_init 0 = .ok (.aload_n 0, 1) := dk_42 (dk_at dksX7_init_0 0 rfl rfl)
theorem dX7_init_1 : decode cX7_init 1 = .ok (.aload_n 1, 1) := dk_43 (dk_at dksX7_init_0 1 rfl rfl)
theorem dX7_init_2 : decode cX7_init 2 = .ok (.putfield 3, 3) := dk_181 0 3 (dk_at dksX7_init_0 2 rfl rfl)
theorem dX7_init_5 : decode cX7_init 5 = .ok (.aload_n 0, 1) := dk_42 (dk_at dksX7_init_0 5 rfl rfl)
theorem dX7_init_6 : decode cX7_init 6 = .ok (.invokespecial 9, 3) := dk_183 0 9 (dk_at dksX7_init_0 6 rfl rfl)
theorem dX7_init_9 : decode cX7_init 9 = .ok (.aload_n 0, 1) := dk_42 (dk_at dksX7_init_0 9 rfl rfl)
theorem dX7_init_10 : decode cX7_init 10 = .ok (.iconst (-1), 1) := dk_2 (dk_at dksX7_init_0 10 rfl rfl)
theorem dX7_init_11 : decode cX7_init 11 = .ok (.putfield 15, 3) := dk_181 0 15 (dk_at dksX7_init_0 11 rfl rfl)
theorem dX7_init_14 : decode cX7_init 14 = .ok (.aload_n 0, 1) := dk_42 (dk_at dksX7_init_0 14 rfl rfl)
theorem dX7_init_15 : decode cX7_init 15 = .ok (.bipush 102, 2) := dk_16 102 (dk_at dksX7_init_0 15 rfl rfl)
theorem dX7_init_17 : decode cX7_init 17 = .ok (.putfield 19, 3) := dk_181 0 19 (dk_at dksX7_init_0 17 rfl rfl)
theorem dX7_init_20 : decode cX7_init 20 = .ok (.aload_n 0, 1) := dk_42 (dk_at dksX7_init_0 20 rfl rfl)
theorem dX7_init_21 : decode cX7_init 21 = .ok (.iconst 1, 1) := dk_4 (dk_at dksX7_init_0 21 rfl rfl)
theorem dX7_init_22 : decode cX7_init 22 = .ok (.putfield 23, 3) := dk_181 0 23 (dk_at dksX7_init_1 0 rfl rfl)
theorem dX7_init_25 : decode cX7_init 25 = .ok (.aload_n 0, 1) := dk_42 (dk_at dksX7_init_1 3 rfl rfl)
theorem dX7_init_26 : decode cX7_init 26 = .ok (.new 27, 3) := dk_187 0 27 (dk_at dksX7_init_1 4 rfl rfl)
theorem dX7_init_29 : decode cX7_init 29 = .ok (.dup, 1) := dk_89 (dk_at dksX7_init_1 7 rfl rfl)
theorem dX7_init_30 : decode cX7_init 30 = .ok (.invokespecial 29, 3) := dk_183 0 29 (dk_at dksX7_init_1 8 rfl rfl)
theorem dX7_init_33 : decode cX7_init 33 = .ok (.putfield 30, 3) := dk_181 0 30 (dk_at dksX7_init_1 11 rfl rfl)
theorem dX7_init_36 : decode cX7_init 36 = .ok (.aload_n 0, 1) := dk_42 (dk_at dksX7_init_1 14 rfl rfl)
theorem dX7_init_37 : decode cX7_init 37 = .ok (.sipush (-1000), 3) := dk_17 252 24 (dk_at dksX7_init_1 15 rfl rfl)
theorem dX7_init_40 : decode cX7_init 40 = .ok (.putfield 34, 3) := dk_181 0 34 (dk_at dksX7_init_1 18 rfl rfl)
theorem dX7_init_43 : decode cX7_init 43 = .ok (.aload_n 0, 1) := dk_42 (dk_at dksX7_init_1 21 rfl rfl)
theorem dX7_init_44 : decode cX7_init 44 = .ok (.iconst (-1), 1) := dk_2 (dk_at dksX7_init_1 22 rfl rfl)
theorem dX7_init_45 : decode cX7_init 45 = .ok (.putfield 37, 3) := dk_181 0 37 (dk_at dksX7_init_2 0 rfl rfl)
theorem dX7_init_48 : decode cX7_init 48 = .ok (.aload_n 0, 1) := dk_42 (dk_at dksX7_init_2 3 rfl rfl)
theorem dX7_init_49 : decode cX7_init 49 = .ok (.iconst 5, 1) := dk_8 (dk_at dksX7_init_2 4 rfl rfl)
theorem dX7_init_50 : decode cX7_init 50 = .ok (.newarray .int, 2) := dk_188_10 (dk_at dksX7_init_2 5 rfl rfl)
theorem dX7_init_52 : decode cX7_init 52 = .ok (.putfield 40, 3) := dk_181 0 40 (dk_at dksX7_init_2 7 rfl rfl)
theorem dX7_init_55 : decode cX7_init 55 = .ok (.aload_n 0, 1) := dk_42 (dk_at dksX7_init_2 10 rfl rfl)
theorem dX7_init_56 : decode cX7_init 56 = .ok (.iconst 5, 1) := dk_8 (dk_at dksX7_init_2 11 rfl rfl)
theorem dX7_init_57 : decode cX7_init 57 = .ok (.newarray .int, 2) := dk_188_10 (dk_at dksX7_init_2 12 rfl rfl)
theorem dX7_init_59 : decode cX7_init 59 = .ok (.putfield 44, 3) := dk_181 0 44 (dk_at dksX7_init_2 14 rfl rfl)
theorem dX7_init_62 : decode cX7_init 62 = .ok (.aload_n 0, 1) := dk_42 (dk_at dksX7_init_2 17 rfl rfl)
theorem dX7_init_63 : decode cX7_init 63 = .ok (.iconst 5, 1) := dk_8 (dk_at dksX7_init_2 18 rfl rfl)
theorem dX7_init_64 : decode cX7_init 64 = .ok (.newarray .int, 2) := dk_188_10 (dk_at dksX7_init_2 19 rfl rfl)
theorem dX7_init_66 : decode cX7_init 66 = .ok (.putfield 47, 3) := dk_181 0 47 (dk_at dksX7_init_2 21 rfl rfl)
theorem dX7_init_69 : decode cX7_init 69 = .ok (.aload_n 0, 1) := dk_42 (dk_at dksX7_init_3 0 rfl rfl)
theorem dX7_init_70 : decode cX7_init 70 = .ok (.new 27, 3) := dk_187 0 27 (dk_at dksX7_init_3 1 rfl rfl)
theorem dX7_init_73 : decode cX7_init 73 = .ok (.dup, 1) := dk_89 (dk_at dksX7_init_3 4 rfl rfl)
theorem dX7_init_74 : decode cX7_init 74 = .ok (.invokespecial 29, 3) := dk_183 0 29 (dk_at dksX7_init_3 5 rfl rfl)
theorem dX7_init_77 : decode cX7_init 77 = .ok (.putfield 50, 3) := dk_181 0 50 (dk_at dksX7_init_3 8 rfl rfl)
theorem dX7_init_80 : decode cX7_init 80 = .ok (.aload_n 0, 1) := dk_42 (dk_at dksX7_init_3 11 rfl rfl)
theorem dX7_init_81 : decode cX7_init 81 = .ok (.iload_n 2, 1) := dk_28 (dk_at dksX7_init_3 12 rfl rfl)
theorem dX7_init_82 : decode cX7_init 82 = .ok (.putfield 53, 3) := dk_181 0 53 (dk_at dksX7_init_3 13 rfl rfl)
theorem dX7_init_85 : decode cX7_init 85 = .ok (.aload_n 0, 1) := dk_42 (dk_at dksX7_init_3 16 rfl rfl)
theorem dX7_init_86 : decode cX7_init 86 = .ok (.new 56, 3) := dk_187 0 56 (dk_at dksX7_init_3 17 rfl rfl)
theorem dX7_init_89 : decode cX7_init 89 = .ok (.dup, 1) := dk_89 (dk_at dksX7_init_3 20 rfl rfl)
theorem dX7_init_90 : decode cX7_init 90 = .ok (.iconst 0, 1) := dk_3 (dk_at dksX7_init_3 21 rfl rfl)
theorem dX7_init_91 : decode cX7_init 91 = .ok (.iconst 0, 1) := dk_3 (dk_at dksX7_init_3 22 rfl rfl)
theorem dX7_init_92 : decode cX7_init 92 = .ok (.iload_n 3, 1) := dk_29 (dk_at dksX7_init_3 23 rfl rfl)
theorem dX7_init_93 : decode cX7_init 93 = .ok (.iconst 0, 1) := dk_3 (dk_at dksX7_init_4 0 rfl rfl)
theorem dX7_init_94 : decode cX7_init 94 = .ok (.new 58, 3) := dk_187 0 58 (dk_at dksX7_init_4 1 rfl rfl)
theorem dX7_init_97 : decode cX7_init 97 = .ok (.dup, 1) := dk_89 (dk_at dksX7_init_4 4 rfl rfl)
theorem dX7_init_98 : decode cX7_init 98 = .ok (.invokespecial 60, 3) := dk_183 0 60 (dk_at dksX7_init_4 5 rfl rfl)
theorem dX7_init_101 : decode cX7_init 101 = .ok (.invokespecial 61, 3) := dk_183 0 61 (dk_at dksX7_init_4 8 rfl rfl)
theorem dX7_init_104 : decode cX7_init 104 = .ok (.putfield 64, 3) := dk_181 0 64 (dk_at dksX7_init_4 11 rfl rfl)
theorem dX7_init_107 : decode cX7_init 107 = .ok (.aload_n 0, 1) := dk_42 (dk_at dksX7_init_4 14 rfl rfl)
theorem dX7_init_108 : decode cX7_init 108 = .ok (.new 58, 3) := dk_187 0 58 (dk_at dksX7_init_4 15 rfl rfl)
theorem dX7_init_111 : decode cX7_init 111 = .ok (.dup, 1) := dk_89 (dk_at dksX7_init_4 18 rfl rfl)
theorem dX7_init_112 : decode cX7_init 112 = .ok (.invokespecial 60, 3) := dk_183 0 60 (dk_at dksX7_init_4 19 rfl rfl)
theorem dX7_init_115 : decode cX7_init 115 = .ok (.putfield 68, 3) := dk_181 0 68 (dk_at dksX7_init_5 0 rfl rfl)
theorem dX7_init_118 : decode cX7_init 118 = .ok (.return_, 1) := dk_177 (dk_at dksX7_init_5 3 rfl rfl)
abbrev cX7_ticks : ByteArray := prog_22_method_14_code
def yX7_ticks : MethodName := ⟨RX7, "ticks", "()V"⟩
def dkwX7_ticks_9 : List UInt8 := [181, 0, 191, 132, 1, 1, 167, 255, 185, 42, 182, 0, 194, 177]
abbrev dktX7_ticks_9 : List UInt8 := dkwX7_ticks_9 ++ []
def dkwX7_ticks_8 : List UInt8 := [180, 0, 126, 181, 0, 184, 44, 42, 182, 0, 85, 181, 0, 187, 44, 42, 42, 182, 0, 85, 182, 0, 188]
abbrev dktX7_ticks_8 : List UInt8 := dkwX7_ticks_8 ++ dktX7_ticks_9
def dkwX7_ticks_7 : List UInt8 := [4, 126, 4, 160, 0, 46, 42, 180, 0, 3, 16, 118, 42, 180, 0, 53, 27, 182, 0, 180, 77, 44, 42]
abbrev dktX7_ticks_7 : List UInt8 := dkwX7_ticks_7 ++ dktX7_ticks_8
def dkwX7_ticks_6 : List UInt8 := [181, 0, 130, 3, 60, 27, 8, 162, 0, 72, 27, 42, 180, 0, 53, 159, 0, 58, 42, 182, 0, 123, 27, 122]
abbrev dktX7_ticks_6 : List UInt8 := dkwX7_ticks_6 ++ dktX7_ticks_7
def dkwX7_ticks_5 : List UInt8 := [181, 0, 177, 42, 42, 180, 0, 160, 181, 0, 174, 42, 3, 181, 0, 127, 42, 2, 181, 0, 37, 42, 3]
abbrev dktX7_ticks_5 : List UInt8 := dkwX7_ticks_5 ++ dktX7_ticks_6
def dkwX7_ticks_4 : List UInt8 := [180, 0, 126, 4, 96, 181, 0, 126, 42, 42, 180, 0, 53, 181, 0, 15, 42, 4, 42, 180, 0, 53, 120]
abbrev dktX7_ticks_4 : List UInt8 := dkwX7_ticks_4 ++ dktX7_ticks_5
def dkwX7_ticks_3 : List UInt8 := [180, 0, 174, 100, 16, 10, 42, 180, 0, 53, 96, 161, 0, 140, 42, 16, 99, 181, 0, 19, 42, 89]
abbrev dktX7_ticks_3 : List UInt8 := dkwX7_ticks_3 ++ dktX7_ticks_4
def dkwX7_ticks_2 : List UInt8 := [161, 0, 173, 42, 182, 0, 168, 167, 0, 166, 42, 182, 0, 171, 153, 0, 159, 42, 180, 0, 160, 42]
abbrev dktX7_ticks_2 : List UInt8 := dkwX7_ticks_2 ++ dktX7_ticks_3
def dkwX7_ticks_1 : List UInt8 := [180, 0, 50, 42, 180, 0, 50, 182, 0, 75, 4, 100, 182, 0, 79, 192, 0, 163, 182, 0, 165, 100, 6]
abbrev dktX7_ticks_1 : List UInt8 := dkwX7_ticks_1 ++ dktX7_ticks_2
def dkwX7_ticks_0 : List UInt8 := [42, 89, 180, 0, 160, 4, 96, 181, 0, 160, 42, 180, 0, 19, 16, 108, 160, 0, 41, 42, 180, 0, 160, 42]
abbrev dktX7_ticks_0 : List UInt8 := dkwX7_ticks_0 ++ dktX7_ticks_1
theorem dksX7_ticks_0 : cX7_ticks.data.toList.drop 0 = dktX7_ticks_0 := by decide +kernel
theorem dksX7_ticks_1 : cX7_ticks.data.toList.drop 24 = dktX7_ticks_1 := dk_seg dksX7_ticks_0 24 rfl rfl
theorem dksX7_ticks_2 : cX7_ticks.data.toList.drop 47 = dktX7_ticks_2 := dk_seg dksX7_ticks_1 23 rfl rfl
theorem dksX7_ticks_3 : cX7_ticks.data.toList.drop 69 = dktX7_ticks_3 := dk_seg dksX7_ticks_2 22 rfl rfl
theorem dksX7_ticks_4 : cX7_ticks.data.toList.drop 91 = dktX7_ticks_4 := dk_seg dksX7_ticks_3 22 rfl rfl
theorem dksX7_ticks_5 : cX7_ticks.data.toList.drop 114 = dktX7_ticks_5 := dk_seg dksX7_ticks_4 23 rfl rfl
theorem dksX7_ticks_6 : cX7_ticks.data.toList.drop 137 = dktX7_ticks_6 := dk_seg dksX7_ticks_5 23 rfl rfl
theorem dksX7_ticks_7 : cX7_ticks.data.toList.drop 161 = dktX7_ticks_7 := dk_seg dksX7_ticks_6 24 rfl rfl
theorem dksX7_ticks_8 : cX7_ticks.data.toList.drop 184 = dktX7_ticks_8 := dk_seg dksX7_ticks_7 23 rfl rfl
theorem dksX7_ticks_9 : cX7_ticks.data.toList.drop 207 = dktX7_ticks_9 := dk_seg dksX7_ticks_8 23 rfl rfl
theorem dX7_ticks_0 : decode cX7_ticks 0 = .ok (.aload_n 0, 1) := dk_42 (dk_at dksX7_ticks_0 0 rfl rfl)
theorem dX7_ticks_1 : decode cX7_ticks 1 = .ok (.dup, 1) := dk_89 (dk_at dksX7_ticks_0 1 rfl rfl)
theorem dX7_ticks_2 : decode cX7_ticks 2 = .ok (.getfield 160, 3) := dk_180 0 160 (dk_at dksX7_ticks_0 2 rfl rfl)
theorem dX7_ticks_5 : decode cX7_ticks 5 = .ok (.iconst 1, 1) := dk_4 (dk_at dksX7_ticks_0 5 rfl rfl)
theorem dX7_ticks_6 : decode cX7_ticks 6 = .ok (.iadd, 1) := dk_96 (dk_at dksX7_ticks_0 6 rfl rfl)
theorem dX7_ticks_7 : decode cX7_ticks 7 = .ok (.putfield 160, 3) := dk_181 0 160 (dk_at dksX7_ticks_0 7 rfl rfl)
theorem dX7_ticks_10 : decode cX7_ticks 10 = .ok (.aload_n 0, 1) := dk_42 (dk_at dksX7_ticks_0 10 rfl rfl)
theorem dX7_ticks_11 : decode cX7_ticks 11 = .ok (.getfield 19, 3) := dk_180 0 19 (dk_at dksX7_ticks_0 11 rfl rfl)
theorem dX7_ticks_14 : decode cX7_ticks 14 = .ok (.bipush 108, 2) := dk_16 108 (dk_at dksX7_ticks_0 14 rfl rfl)
theorem dX7_ticks_16 : decode cX7_ticks 16 = .ok (.if_icmp .ne 41, 3) := dk_160 0 41 (dk_at dksX7_ticks_0 16 rfl rfl)
theorem dX7_ticks_19 : decode cX7_ticks 19 = .ok (.aload_n 0, 1) := dk_42 (dk_at dksX7_ticks_0 19 rfl rfl)
theorem dX7_ticks_20 : decode cX7_ticks 20 = .ok (.getfield 160, 3) := dk_180 0 160 (dk_at dksX7_ticks_0 20 rfl rfl)
theorem dX7_ticks_23 : decode cX7_ticks 23 = .ok (.aload_n 0, 1) := dk_42 (dk_at dksX7_ticks_0 23 rfl rfl)
theorem dX7_ticks_24 : decode cX7_ticks 24 = .ok (.getfield 50, 3) := dk_180 0 50 (dk_at dksX7_ticks_1 0 rfl rfl)
theorem dX7_ticks_27 : decode cX7_ticks 27 = .ok (.aload_n 0, 1) := dk_42 (dk_at dksX7_ticks_1 3 rfl rfl)
theorem dX7_ticks_28 : decode cX7_ticks 28 = .ok (.getfield 50, 3) := dk_180 0 50 (dk_at dksX7_ticks_1 4 rfl rfl)
theorem dX7_ticks_31 : decode cX7_ticks 31 = .ok (.invokevirtual 75, 3) := dk_182 0 75 (dk_at dksX7_ticks_1 7 rfl rfl)
theorem dX7_ticks_34 : decode cX7_ticks 34 = .ok (.iconst 1, 1) := dk_4 (dk_at dksX7_ticks_1 10 rfl rfl)
theorem dX7_ticks_35 : decode cX7_ticks 35 = .ok (.isub, 1) := dk_100 (dk_at dksX7_ticks_1 11 rfl rfl)
theorem dX7_ticks_36 : decode cX7_ticks 36 = .ok (.invokevirtual 79, 3) := dk_182 0 79 (dk_at dksX7_ticks_1 12 rfl rfl)
theorem dX7_ticks_39 : decode cX7_ticks 39 = .ok (.checkcast 163, 3) := dk_192 0 163 (dk_at dksX7_ticks_1 15 rfl rfl)
theorem dX7_ticks_42 : decode cX7_ticks 42 = .ok (.invokevirtual 165, 3) := dk_182 0 165 (dk_at dksX7_ticks_1 18 rfl rfl)
theorem dX7_ticks_45 : decode cX7_ticks 45 = .ok (.isub, 1) := dk_100 (dk_at dksX7_ticks_1 21 rfl rfl)
theorem dX7_ticks_46 : decode cX7_ticks 46 = .ok (.iconst 3, 1) := dk_6 (dk_at dksX7_ticks_1 22 rfl rfl)
theorem dX7_ticks_47 : decode cX7_ticks 47 = .ok (.if_icmp .lt 173, 3) := dk_161 0 173 (dk_at dksX7_ticks_2 0 rfl rfl)
theorem dX7_ticks_50 : decode cX7_ticks 50 = .ok (.aload_n 0, 1) := dk_42 (dk_at dksX7_ticks_2 3 rfl rfl)
theorem dX7_ticks_51 : decode cX7_ticks 51 = .ok (.invokevirtual 168, 3) := dk_182 0 168 (dk_at dksX7_ticks_2 4 rfl rfl)
theorem dX7_ticks_54 : decode cX7_ticks 54 = .ok (.goto 166, 3) := dk_167 0 166 (dk_at dksX7_ticks_2 7 rfl rfl)
theorem dX7_ticks_57 : decode cX7_ticks 57 = .ok (.aload_n 0, 1) := dk_42 (dk_at dksX7_ticks_2 10 rfl rfl)
theorem dX7_ticks_58 : decode cX7_ticks 58 = .ok (.invokevirtual 171, 3) := dk_182 0 171 (dk_at dksX7_ticks_2 11 rfl rfl)
theorem dX7_ticks_61 : decode cX7_ticks 61 = .ok (.ifCond .eq 159, 3) := dk_153 0 159 (dk_at dksX7_ticks_2 14 rfl rfl)
theorem dX7_ticks_64 : decode cX7_ticks 64 = .ok (.aload_n 0, 1) := dk_42 (dk_at dksX7_ticks_2 17 rfl rfl)
theorem dX7_ticks_65 : decode cX7_ticks 65 = .ok (.getfield 160, 3) := dk_180 0 160 (dk_at dksX7_ticks_2 18 rfl rfl)
theorem dX7_ticks_68 : decode cX7_ticks 68 = .ok (.aload_n 0, 1) := dk_42 (dk_at dksX7_ticks_2 21 rfl rfl)
theorem dX7_ticks_69 : decode cX7_ticks 69 = .ok (.getfield 174, 3) := dk_180 0 174 (dk_at dksX7_ticks_3 0 rfl rfl)
theorem dX7_ticks_72 : decode cX7_ticks 72 = .ok (.isub, 1) := dk_100 (dk_at dksX7_ticks_3 3 rfl rfl)
theorem dX7_ticks_73 : decode cX7_ticks 73 = .ok (.bipush 10, 2) := dk_16 10 (dk_at dksX7_ticks_3 4 rfl rfl)
theorem dX7_ticks_75 : decode cX7_ticks 75 = .ok (.aload_n 0, 1) := dk_42 (dk_at dksX7_ticks_3 6 rfl rfl)
theorem dX7_ticks_76 : decode cX7_ticks 76 = .ok (.getfield 53, 3) := dk_180 0 53 (dk_at dksX7_ticks_3 7 rfl rfl)
theorem dX7_ticks_79 : decode cX7_ticks 79 = .ok (.iadd, 1) := dk_96 (dk_at dksX7_ticks_3 10 rfl rfl)
theorem dX7_ticks_80 : decode cX7_ticks 80 = .ok (.if_icmp .lt 140, 3) := dk_161 0 140 (dk_at dksX7_ticks_3 11 rfl rfl)
theorem dX7_ticks_83 : decode cX7_ticks 83 = .ok (.aload_n 0, 1) := dk_42 (dk_at dksX7_ticks_3 14 rfl rfl)
theorem dX7_ticks_84 : decode cX7_ticks 84 = .ok (.bipush 99, 2) := dk_16 99 (dk_at dksX7_ticks_3 15 rfl rfl)
theorem dX7_ticks_86 : decode cX7_ticks 86 = .ok (.putfield 19, 3) := dk_181 0 19 (dk_at dksX7_ticks_3 17 rfl rfl)
theorem dX7_ticks_89 : decode cX7_ticks 89 = .ok (.aload_n 0, 1) := dk_42 (dk_at dksX7_ticks_3 20 rfl rfl)
theorem dX7_ticks_90 : decode cX7_ticks 90 = .ok (.dup, 1) := dk_89 (dk_at dksX7_ticks_3 21 rfl rfl)
theorem dX7_ticks_91 : decode cX7_ticks 91 = .ok (.getfield 126, 3) := dk_180 0 126 (dk_at dksX7_ticks_4 0 rfl rfl)
theorem dX7_ticks_94 : decode cX7_ticks 94 = .ok (.iconst 1, 1) := dk_4 (dk_at dksX7_ticks_4 3 rfl rfl)
theorem dX7_ticks_95 : decode cX7_ticks 95 = .ok (.iadd, 1) := dk_96 (dk_at dksX7_ticks_4 4 rfl rfl)
theorem dX7_ticks_96 : decode cX7_ticks 96 = .ok (.putfield 126, 3) := dk_181 0 126 (dk_at dksX7_ticks_4 5 rfl rfl)
theorem dX7_ticks_99 : decode cX7_ticks 99 = .ok (.aload_n 0, 1) := dk_42 (dk_at dksX7_ticks_4 8 rfl rfl)
theorem dX7_ticks_100 : decode cX7_ticks 100 = .ok (.aload_n 0, 1) := dk_42 (dk_at dksX7_ticks_4 9 rfl rfl)
theorem dX7_ticks_101 : decode cX7_ticks 101 = .ok (.getfield 53, 3) := dk_180 0 53 (dk_at dksX7_ticks_4 10 rfl rfl)
theorem dX7_ticks_104 : decode cX7_ticks 104 = .ok (.putfield 15, 3) := dk_181 0 15 (dk_at dksX7_ticks_4 13 rfl rfl)
theorem dX7_ticks_107 : decode cX7_ticks 107 = .ok (.aload_n 0, 1) := dk_42 (dk_at dksX7_ticks_4 16 rfl rfl)
theorem dX7_ticks_108 : decode cX7_ticks 108 = .ok (.iconst 1, 1) := dk_4 (dk_at dksX7_ticks_4 17 rfl rfl)
theorem dX7_ticks_109 : decode cX7_ticks 109 = .ok (.aload_n 0, 1) := dk_42 (dk_at dksX7_ticks_4 18 rfl rfl)
theorem dX7_ticks_110 : decode cX7_ticks 110 = .ok (.getfield 53, 3) := dk_180 0 53 (dk_at dksX7_ticks_4 19 rfl rfl)
theorem dX7_ticks_113 : decode cX7_ticks 113 = .ok (.ishl, 1) := dk_120 (dk_at dksX7_ticks_4 22 rfl rfl)
theorem dX7_ticks_114 : decode cX7_ticks 114 = .ok (.putfield 177, 3) := dk_181 0 177 (dk_at dksX7_ticks_5 0 rfl rfl)
theorem dX7_ticks_117 : decode cX7_ticks 117 = .ok (.aload_n 0, 1) := dk_42 (dk_at dksX7_ticks_5 3 rfl rfl)
theorem dX7_ticks_118 : decode cX7_ticks 118 = .ok (.aload_n 0, 1) := dk_42 (dk_at dksX7_ticks_5 4 rfl rfl)
theorem dX7_ticks_119 : decode cX7_ticks 119 = .ok (.getfield 160, 3) := dk_180 0 160 (dk_at dksX7_ticks_5 5 rfl rfl)
theorem dX7_ticks_122 : decode cX7_ticks 122 = .ok (.putfield 174, 3) := dk_181 0 174 (dk_at dksX7_ticks_5 8 rfl rfl)
theorem dX7_ticks_125 : decode cX7_ticks 125 = .ok (.aload_n 0, 1) := dk_42 (dk_at dksX7_ticks_5 11 rfl rfl)
theorem dX7_ticks_126 : decode cX7_ticks 126 = .ok (.iconst 0, 1) := dk_3 (dk_at dksX7_ticks_5 12 rfl rfl)
theorem dX7_ticks_127 : decode cX7_ticks 127 = .ok (.putfield 127, 3) := dk_181 0 127 (dk_at dksX7_ticks_5 13 rfl rfl)
theorem dX7_ticks_130 : decode cX7_ticks 130 = .ok (.aload_n 0, 1) := dk_42 (dk_at dksX7_ticks_5 16 rfl rfl)
theorem dX7_ticks_131 : decode cX7_ticks 131 = .ok (.iconst (-1), 1) := dk_2 (dk_at dksX7_ticks_5 17 rfl rfl)
theorem dX7_ticks_132 : decode cX7_ticks 132 = .ok (.putfield 37, 3) := dk_181 0 37 (dk_at dksX7_ticks_5 18 rfl rfl)
theorem dX7_ticks_135 : decode cX7_ticks 135 = .ok (.aload_n 0, 1) := dk_42 (dk_at dksX7_ticks_5 21 rfl rfl)
theorem dX7_ticks_136 : decode cX7_ticks 136 = .ok (.iconst 0, 1) := dk_3 (dk_at dksX7_ticks_5 22 rfl rfl)
theorem dX7_ticks_137 : decode cX7_ticks 137 = .ok (.putfield 130, 3) := dk_181 0 130 (dk_at dksX7_ticks_6 0 rfl rfl)
theorem dX7_ticks_140 : decode cX7_ticks 140 = .ok (.iconst 0, 1) := dk_3 (dk_at dksX7_ticks_6 3 rfl rfl)
theorem dX7_ticks_141 : decode cX7_ticks 141 = .ok (.istore_n 1, 1) := dk_60 (dk_at dksX7_ticks_6 4 rfl rfl)
theorem dX7_ticks_142 : decode cX7_ticks 142 = .ok (.iload_n 1, 1) := dk_27 (dk_at dksX7_ticks_6 5 rfl rfl)
theorem dX7_ticks_143 : decode cX7_ticks 143 = .ok (.iconst 5, 1) := dk_8 (dk_at dksX7_ticks_6 6 rfl rfl)
theorem dX7_ticks_144 : decode cX7_ticks 144 = .ok (.if_icmp .ge 72, 3) := dk_162 0 72 (dk_at dksX7_ticks_6 7 rfl rfl)
theorem dX7_ticks_147 : decode cX7_ticks 147 = .ok (.iload_n 1, 1) := dk_27 (dk_at dksX7_ticks_6 10 rfl rfl)
theorem dX7_ticks_148 : decode cX7_ticks 148 = .ok (.aload_n 0, 1) := dk_42 (dk_at dksX7_ticks_6 11 rfl rfl)
theorem dX7_ticks_149 : decode cX7_ticks 149 = .ok (.getfield 53, 3) := dk_180 0 53 (dk_at dksX7_ticks_6 12 rfl rfl)
theorem dX7_ticks_152 : decode cX7_ticks 152 = .ok (.if_icmp .eq 58, 3) := dk_159 0 58 (dk_at dksX7_ticks_6 15 rfl rfl)
theorem dX7_ticks_155 : decode cX7_ticks 155 = .ok (.aload_n 0, 1) := dk_42 (dk_at dksX7_ticks_6 18 rfl rfl)
theorem dX7_ticks_156 : decode cX7_ticks 156 = .ok (.invokevirtual 123, 3) := dk_182 0 123 (dk_at dksX7_ticks_6 19 rfl rfl)
theorem dX7_ticks_159 : decode cX7_ticks 159 = .ok (.iload_n 1, 1) := dk_27 (dk_at dksX7_ticks_6 22 rfl rfl)
theorem dX7_ticks_160 : decode cX7_ticks 160 = .ok (.ishr, 1) := dk_122 (dk_at dksX7_ticks_6 23 rfl rfl)
theorem dX7_ticks_161 : decode cX7_ticks 161 = .ok (.iconst 1, 1) := dk_4 (dk_at dksX7_ticks_7 0 rfl rfl)
theorem dX7_ticks_162 : decode cX7_ticks 162 = .ok (.iand, 1) := dk_126 (dk_at dksX7_ticks_7 1 rfl rfl)
theorem dX7_ticks_163 : decode cX7_ticks 163 = .ok (.iconst 1, 1) := dk_4 (dk_at dksX7_ticks_7 2 rfl rfl)
theorem dX7_ticks_164 : decode cX7_ticks 164 = .ok (.if_icmp .ne 46, 3) := dk_160 0 46 (dk_at dksX7_ticks_7 3 rfl rfl)
theorem dX7_ticks_167 : decode cX7_ticks 167 = .ok (.aload_n 0, 1) := dk_42 (dk_at dksX7_ticks_7 6 rfl rfl)
theorem dX7_ticks_168 : decode cX7_ticks 168 = .ok (.getfield 3, 3) := dk_180 0 3 (dk_at dksX7_ticks_7 7 rfl rfl)
theorem dX7_ticks_171 : decode cX7_ticks 171 = .ok (.bipush 118, 2) := dk_16 118 (dk_at dksX7_ticks_7 10 rfl rfl)
theorem dX7_ticks_173 : decode cX7_ticks 173 = .ok (.aload_n 0, 1) := dk_42 (dk_at dksX7_ticks_7 12 rfl rfl)
theorem dX7_ticks_174 : decode cX7_ticks 174 = .ok (.getfield 53, 3) := dk_180 0 53 (dk_at dksX7_ticks_7 13 rfl rfl)
theorem dX7_ticks_177 : decode cX7_ticks 177 = .ok (.iload_n 1, 1) := dk_27 (dk_at dksX7_ticks_7 16 rfl rfl)
theorem dX7_ticks_178 : decode cX7_ticks 178 = .ok (.invokevirtual 180, 3) := dk_182 0 180 (dk_at dksX7_ticks_7 17 rfl rfl)
theorem dX7_ticks_181 : decode cX7_ticks 181 = .ok (.astore_n 2, 1) := dk_77 (dk_at dksX7_ticks_7 20 rfl rfl)
theorem dX7_ticks_182 : decode cX7_ticks 182 = .ok (.aload_n 2, 1) := dk_44 (dk_at dksX7_ticks_7 21 rfl rfl)
theorem dX7_ticks_183 : decode cX7_ticks 183 = .ok (.aload_n 0, 1) := dk_42 (dk_at dksX7_ticks_7 22 rfl rfl)
theorem dX7_ticks_184 : decode cX7_ticks 184 = .ok (.getfield 126, 3) := dk_180 0 126 (dk_at dksX7_ticks_8 0 rfl rfl)
theorem dX7_ticks_187 : decode cX7_ticks 187 = .ok (.putfield 184, 3) := dk_181 0 184 (dk_at dksX7_ticks_8 3 rfl rfl)
theorem dX7_ticks_190 : decode cX7_ticks 190 = .ok (.aload_n 2, 1) := dk_44 (dk_at dksX7_ticks_8 6 rfl rfl)
theorem dX7_ticks_191 : decode cX7_ticks 191 = .ok (.aload_n 0, 1) := dk_42 (dk_at dksX7_ticks_8 7 rfl rfl)
theorem dX7_ticks_192 : decode cX7_ticks 192 = .ok (.invokevirtual 85, 3) := dk_182 0 85 (dk_at dksX7_ticks_8 8 rfl rfl)
theorem dX7_ticks_195 : decode cX7_ticks 195 = .ok (.putfield 187, 3) := dk_181 0 187 (dk_at dksX7_ticks_8 11 rfl rfl)
theorem dX7_ticks_198 : decode cX7_ticks 198 = .ok (.aload_n 2, 1) := dk_44 (dk_at dksX7_ticks_8 14 rfl rfl)
theorem dX7_ticks_199 : decode cX7_ticks 199 = .ok (.aload_n 0, 1) := dk_42 (dk_at dksX7_ticks_8 15 rfl rfl)
theorem dX7_ticks_200 : decode cX7_ticks 200 = .ok (.aload_n 0, 1) := dk_42 (dk_at dksX7_ticks_8 16 rfl rfl)
theorem dX7_ticks_201 : decode cX7_ticks 201 = .ok (.invokevirtual 85, 3) := dk_182 0 85 (dk_at dksX7_ticks_8 17 rfl rfl)
theorem dX7_ticks_204 : decode cX7_ticks 204 = .ok (.invokevirtual 188, 3) := dk_182 0 188 (dk_at dksX7_ticks_8 20 rfl rfl)
theorem dX7_ticks_207 : decode cX7_ticks 207 = .ok (.putfield 191, 3) := dk_181 0 191 (dk_at dksX7_ticks_9 0 rfl rfl)
theorem dX7_ticks_210 : decode cX7_ticks 210 = .ok (.iinc 1 1, 3) := dk_132 1 1 (dk_at dksX7_ticks_9 3 rfl rfl)
theorem dX7_ticks_213 : decode cX7_ticks 213 = .ok (.goto (-71), 3) := dk_167 255 185 (dk_at dksX7_ticks_9 6 rfl rfl)
theorem dX7_ticks_216 : decode cX7_ticks 216 = .ok (.aload_n 0, 1) := dk_42 (dk_at dksX7_ticks_9 9 rfl rfl)
theorem dX7_ticks_217 : decode cX7_ticks 217 = .ok (.invokevirtual 194, 3) := dk_182 0 194 (dk_at dksX7_ticks_9 10 rfl rfl)
theorem dX7_ticks_220 : decode cX7_ticks 220 = .ok (.return_, 1) := dk_177 (dk_at dksX7_ticks_9 13 rfl rfl)
abbrev cX7_beginsRound : ByteArray := prog_22_method_16_code
def yX7_beginsRound : MethodName := ⟨RX7, "beginsRound", "()V"⟩
def dkwX7_beginsRound_2 : List UInt8 := [132, 2, 1, 167, 255, 223, 177]
abbrev dktX7_beginsRound_2 : List UInt8 := dkwX7_beginsRound_2 ++ []
def dkwX7_beginsRound_1 : List UInt8 := [180, 0, 53, 159, 0, 20, 42, 182, 0, 123, 28, 122, 4, 126, 4, 160, 0, 8, 42, 28, 182, 0, 212]
abbrev dktX7_beginsRound_1 : List UInt8 := dkwX7_beginsRound_1 ++ dktX7_beginsRound_2
def dkwX7_beginsRound_0 : List UInt8 := [42, 180, 0, 50, 42, 180, 0, 160, 184, 0, 208, 182, 0, 204, 60, 3, 61, 28, 8, 162, 0, 34, 28, 42]
abbrev dktX7_beginsRound_0 : List UInt8 := dkwX7_beginsRound_0 ++ dktX7_beginsRound_1
theorem dksX7_beginsRound_0 : cX7_beginsRound.data.toList.drop 0 = dktX7_beginsRound_0 := by decide +kernel
theorem dksX7_beginsRound_1 : cX7_beginsRound.data.toList.drop 24 = dktX7_beginsRound_1 := dk_seg dksX7_beginsRound_0 24 rfl rfl
theorem dksX7_beginsRound_2 : cX7_beginsRound.data.toList.drop 47 = dktX7_beginsRound_2 := dk_seg dksX7_beginsRound_1 23 rfl rfl
theorem dX7_beginsRound_0 : decode cX7_beginsRound 0 = .ok (.aload_n 0, 1) := dk_42 (dk_at dksX7_beginsRound_0 0 rfl rfl)
theorem dX7_beginsRound_1 : decode cX7_beginsRound 1 = .ok (.getfield 50, 3) := dk_180 0 50 (dk_at dksX7_beginsRound_0 1 rfl rfl)
theorem dX7_beginsRound_4 : decode cX7_beginsRound 4 = .ok (.aload_n 0, 1) := dk_42 (dk_at dksX7_beginsRound_0 4 rfl rfl)
theorem dX7_beginsRound_5 : decode cX7_beginsRound 5 = .ok (.getfield 160, 3) := dk_180 0 160 (dk_at dksX7_beginsRound_0 5 rfl rfl)
theorem dX7_beginsRound_8 : decode cX7_beginsRound 8 = .ok (.invokestatic 208, 3) := dk_184 0 208 (dk_at dksX7_beginsRound_0 8 rfl rfl)
theorem dX7_beginsRound_11 : decode cX7_beginsRound 11 = .ok (.invokevirtual 204, 3) := dk_182 0 204 (dk_at dksX7_beginsRound_0 11 rfl rfl)
theorem dX7_beginsRound_14 : decode cX7_beginsRound 14 = .ok (.istore_n 1, 1) := dk_60 (dk_at dksX7_beginsRound_0 14 rfl rfl)
theorem dX7_beginsRound_15 : decode cX7_beginsRound 15 = .ok (.iconst 0, 1) := dk_3 (dk_at dksX7_beginsRound_0 15 rfl rfl)
theorem dX7_beginsRound_16 : decode cX7_beginsRound 16 = .ok (.istore_n 2, 1) := dk_61 (dk_at dksX7_beginsRound_0 16 rfl rfl)
theorem dX7_beginsRound_17 : decode cX7_beginsRound 17 = .ok (.iload_n 2, 1) := dk_28 (dk_at dksX7_beginsRound_0 17 rfl rfl)
theorem dX7_beginsRound_18 : decode cX7_beginsRound 18 = .ok (.iconst 5, 1) := dk_8 (dk_at dksX7_beginsRound_0 18 rfl rfl)
theorem dX7_beginsRound_19 : decode cX7_beginsRound 19 = .ok (.if_icmp .ge 34, 3) := dk_162 0 34 (dk_at dksX7_beginsRound_0 19 rfl rfl)
theorem dX7_beginsRound_22 : decode cX7_beginsRound 22 = .ok (.iload_n 2, 1) := dk_28 (dk_at dksX7_beginsRound_0 22 rfl rfl)
theorem dX7_beginsRound_23 : decode cX7_beginsRound 23 = .ok (.aload_n 0, 1) := dk_42 (dk_at dksX7_beginsRound_0 23 rfl rfl)
theorem dX7_beginsRound_24 : decode cX7_beginsRound 24 = .ok (.getfield 53, 3) := dk_180 0 53 (dk_at dksX7_beginsRound_1 0 rfl rfl)
theorem dX7_beginsRound_27 : decode cX7_beginsRound 27 = .ok (.if_icmp .eq 20, 3) := dk_159 0 20 (dk_at dksX7_beginsRound_1 3 rfl rfl)
theorem dX7_beginsRound_30 : decode cX7_beginsRound 30 = .ok (.aload_n 0, 1) := dk_42 (dk_at dksX7_beginsRound_1 6 rfl rfl)
theorem dX7_beginsRound_31 : decode cX7_beginsRound 31 = .ok (.invokevirtual 123, 3) := dk_182 0 123 (dk_at dksX7_beginsRound_1 7 rfl rfl)
theorem dX7_beginsRound_34 : decode cX7_beginsRound 34 = .ok (.iload_n 2, 1) := dk_28 (dk_at dksX7_beginsRound_1 10 rfl rfl)
theorem dX7_beginsRound_35 : decode cX7_beginsRound 35 = .ok (.ishr, 1) := dk_122 (dk_at dksX7_beginsRound_1 11 rfl rfl)
theorem dX7_beginsRound_36 : decode cX7_beginsRound 36 = .ok (.iconst 1, 1) := dk_4 (dk_at dksX7_beginsRound_1 12 rfl rfl)
theorem dX7_beginsRound_37 : decode cX7_beginsRound 37 = .ok (.iand, 1) := dk_126 (dk_at dksX7_beginsRound_1 13 rfl rfl)
theorem dX7_beginsRound_38 : decode cX7_beginsRound 38 = .ok (.iconst 1, 1) := dk_4 (dk_at dksX7_beginsRound_1 14 rfl rfl)
theorem dX7_beginsRound_39 : decode cX7_beginsRound 39 = .ok (.if_icmp .ne 8, 3) := dk_160 0 8 (dk_at dksX7_beginsRound_1 15 rfl rfl)
theorem dX7_beginsRound_42 : decode cX7_beginsRound 42 = .ok (.aload_n 0, 1) := dk_42 (dk_at dksX7_beginsRound_1 18 rfl rfl)
theorem dX7_beginsRound_43 : decode cX7_beginsRound 43 = .ok (.iload_n 2, 1) := dk_28 (dk_at dksX7_beginsRound_1 19 rfl rfl)
theorem dX7_beginsRound_44 : decode cX7_beginsRound 44 = .ok (.invokevirtual 212, 3) := dk_182 0 212 (dk_at dksX7_beginsRound_1 20 rfl rfl)
theorem dX7_beginsRound_47 : decode cX7_beginsRound 47 = .ok (.iinc 2 1, 3) := dk_132 2 1 (dk_at dksX7_beginsRound_2 0 rfl rfl)
theorem dX7_beginsRound_50 : decode cX7_beginsRound 50 = .ok (.goto (-33), 3) := dk_167 255 223 (dk_at dksX7_beginsRound_2 3 rfl rfl)
theorem dX7_beginsRound_53 : decode cX7_beginsRound 53 = .ok (.return_, 1) := dk_177 (dk_at dksX7_beginsRound_2 6 rfl rfl)
abbrev cX7_members : ByteArray := prog_22_method_9_code
def yX7_members : MethodName := ⟨RX7, "members", "()I"⟩
def dkwX7_members_0 : List UInt8 := [42, 42, 182, 0, 85, 182, 0, 115, 42, 42, 182, 0, 85, 182, 0, 117, 128, 172]
abbrev dktX7_members_0 : List UInt8 := dkwX7_members_0 ++ []
theorem dksX7_members_0 : cX7_members.data.toList.drop 0 = dktX7_members_0 := by decide +kernel
theorem dX7_members_0 : decode cX7_members 0 = .ok (.aload_n 0, 1) := dk_42 (dk_at dksX7_members_0 0 rfl rfl)
theorem dX7_members_1 : decode cX7_members 1 = .ok (.aload_n 0, 1) := dk_42 (dk_at dksX7_members_0 1 rfl rfl)
theorem dX7_members_2 : decode cX7_members 2 = .ok (.invokevirtual 85, 3) := dk_182 0 85 (dk_at dksX7_members_0 2 rfl rfl)
theorem dX7_members_5 : decode cX7_members 5 = .ok (.invokevirtual 115, 3) := dk_182 0 115 (dk_at dksX7_members_0 5 rfl rfl)
theorem dX7_members_8 : decode cX7_members 8 = .ok (.aload_n 0, 1) := dk_42 (dk_at dksX7_members_0 8 rfl rfl)
theorem dX7_members_9 : decode cX7_members 9 = .ok (.aload_n 0, 1) := dk_42 (dk_at dksX7_members_0 9 rfl rfl)
theorem dX7_members_10 : decode cX7_members 10 = .ok (.invokevirtual 85, 3) := dk_182 0 85 (dk_at dksX7_members_0 10 rfl rfl)
theorem dX7_members_13 : decode cX7_members 13 = .ok (.invokevirtual 117, 3) := dk_182 0 117 (dk_at dksX7_members_0 13 rfl rfl)
theorem dX7_members_16 : decode cX7_members 16 = .ok (.ior, 1) := dk_128 (dk_at dksX7_members_0 16 rfl rfl)
theorem dX7_members_17 : decode cX7_members 17 = .ok (.ireturn, 1) := dk_172 (dk_at dksX7_members_0 17 rfl rfl)
abbrev cX7_last : ByteArray := prog_22_method_2_code
def yX7_last : MethodName := ⟨RX7, "last", "()I"⟩
def dkwX7_last_0 : List UInt8 := [42, 180, 0, 64, 180, 0, 72, 42, 180, 0, 30, 182, 0, 75, 96, 172]
abbrev dktX7_last_0 : List UInt8 := dkwX7_last_0 ++ []
theorem dksX7_last_0 : cX7_last.data.toList.drop 0 = dktX7_last_0 := by decide +kernel
theorem dX7_last_0 : decode cX7_last 0 = .ok (.aload_n 0, 1) := dk_42 (dk_at dksX7_last_0 0 rfl rfl)
theorem dX7_last_1 : decode cX7_last 1 = .ok (.getfield 64, 3) := dk_180 0 64 (dk_at dksX7_last_0 1 rfl rfl)
theorem dX7_last_4 : decode cX7_last 4 = .ok (.getfield 72, 3) := dk_180 0 72 (dk_at dksX7_last_0 4 rfl rfl)
theorem dX7_last_7 : decode cX7_last 7 = .ok (.aload_n 0, 1) := dk_42 (dk_at dksX7_last_0 7 rfl rfl)
theorem dX7_last_8 : decode cX7_last 8 = .ok (.getfield 30, 3) := dk_180 0 30 (dk_at dksX7_last_0 8 rfl rfl)
theorem dX7_last_11 : decode cX7_last 11 = .ok (.invokevirtual 75, 3) := dk_182 0 75 (dk_at dksX7_last_0 11 rfl rfl)
theorem dX7_last_14 : decode cX7_last 14 = .ok (.iadd, 1) := dk_96 (dk_at dksX7_last_0 14 rfl rfl)
theorem dX7_last_15 : decode cX7_last 15 = .ok (.ireturn, 1) := dk_172 (dk_at dksX7_last_0 15 rfl rfl)
abbrev cX7_old : ByteArray := prog_22_method_7_code
def yX7_old : MethodName := ⟨RX7, "old", "(I)I"⟩
def dkwX7_old_1 : List UInt8 := [182, 0, 91, 180, 0, 106, 172]
abbrev dktX7_old_1 : List UInt8 := dkwX7_old_1 ++ []
def dkwX7_old_0 : List UInt8 := [42, 27, 182, 0, 99, 61, 28, 154, 0, 13, 42, 180, 0, 64, 180, 0, 103, 167, 0, 11, 42, 28]
abbrev dktX7_old_0 : List UInt8 := dkwX7_old_0 ++ dktX7_old_1
theorem dksX7_old_0 : cX7_old.data.toList.drop 0 = dktX7_old_0 := by decide +kernel
theorem dksX7_old_1 : cX7_old.data.toList.drop 22 = dktX7_old_1 := dk_seg dksX7_old_0 22 rfl rfl
theorem dX7_old_0 : decode cX7_old 0 = .ok (.aload_n 0, 1) := dk_42 (dk_at dksX7_old_0 0 rfl rfl)
theorem dX7_old_1 : decode cX7_old 1 = .ok (.iload_n 1, 1) := dk_27 (dk_at dksX7_old_0 1 rfl rfl)
theorem dX7_old_2 : decode cX7_old 2 = .ok (.invokevirtual 99, 3) := dk_182 0 99 (dk_at dksX7_old_0 2 rfl rfl)
theorem dX7_old_5 : decode cX7_old 5 = .ok (.istore_n 2, 1) := dk_61 (dk_at dksX7_old_0 5 rfl rfl)
theorem dX7_old_6 : decode cX7_old 6 = .ok (.iload_n 2, 1) := dk_28 (dk_at dksX7_old_0 6 rfl rfl)
theorem dX7_old_7 : decode cX7_old 7 = .ok (.ifCond .ne 13, 3) := dk_154 0 13 (dk_at dksX7_old_0 7 rfl rfl)
theorem dX7_old_10 : decode cX7_old 10 = .ok (.aload_n 0, 1) := dk_42 (dk_at dksX7_old_0 10 rfl rfl)
theorem dX7_old_11 : decode cX7_old 11 = .ok (.getfield 64, 3) := dk_180 0 64 (dk_at dksX7_old_0 11 rfl rfl)
theorem dX7_old_14 : decode cX7_old 14 = .ok (.getfield 103, 3) := dk_180 0 103 (dk_at dksX7_old_0 14 rfl rfl)
theorem dX7_old_17 : decode cX7_old 17 = .ok (.goto 11, 3) := dk_167 0 11 (dk_at dksX7_old_0 17 rfl rfl)
theorem dX7_old_20 : decode cX7_old 20 = .ok (.aload_n 0, 1) := dk_42 (dk_at dksX7_old_0 20 rfl rfl)
theorem dX7_old_21 : decode cX7_old 21 = .ok (.iload_n 2, 1) := dk_28 (dk_at dksX7_old_0 21 rfl rfl)
theorem dX7_old_22 : decode cX7_old 22 = .ok (.invokevirtual 91, 3) := dk_182 0 91 (dk_at dksX7_old_1 0 rfl rfl)
theorem dX7_old_25 : decode cX7_old 25 = .ok (.getfield 106, 3) := dk_180 0 106 (dk_at dksX7_old_1 3 rfl rfl)
theorem dX7_old_28 : decode cX7_old 28 = .ok (.ireturn, 1) := dk_172 (dk_at dksX7_old_1 6 rfl rfl)
abbrev cX7_latestChange : ByteArray := prog_22_method_6_code
def yX7_latestChange : MethodName := ⟨RX7, "latestChange", "(I)I"⟩
def dkwX7_latestChange_2 : List UInt8 := [167, 0, 4, 28, 61, 132, 3, 1, 167, 255, 216, 28, 172]
abbrev dktX7_latestChange_2 : List UInt8 := dkwX7_latestChange_2 ++ []
def dkwX7_latestChange_1 : List UInt8 := [180, 0, 96, 16, 106, 159, 0, 16, 42, 29, 182, 0, 91, 180, 0, 96, 16, 110, 160, 0, 7, 29]
abbrev dktX7_latestChange_1 : List UInt8 := dkwX7_latestChange_1 ++ dktX7_latestChange_2
def dkwX7_latestChange_0 : List UInt8 := [3, 61, 42, 180, 0, 64, 180, 0, 72, 4, 96, 62, 29, 27, 163, 0, 41, 42, 29, 182, 0, 91]
abbrev dktX7_latestChange_0 : List UInt8 := dkwX7_latestChange_0 ++ dktX7_latestChange_1
theorem dksX7_latestChange_0 : cX7_latestChange.data.toList.drop 0 = dktX7_latestChange_0 := by decide +kernel
theorem dksX7_latestChange_1 : cX7_latestChange.data.toList.drop 22 = dktX7_latestChange_1 := dk_seg dksX7_latestChange_0 22 rfl rfl
theorem dksX7_latestChange_2 : cX7_latestChange.data.toList.drop 44 = dktX7_latestChange_2 := dk_seg dksX7_latestChange_1 22 rfl rfl
theorem dX7_latestChange_0 : decode cX7_latestChange 0 = .ok (.iconst 0, 1) := dk_3 (dk_at dksX7_latestChange_0 0 rfl rfl)
theorem dX7_latestChange_1 : decode cX7_latestChange 1 = .ok (.istore_n 2, 1) := dk_61 (dk_at dksX7_latestChange_0 1 rfl rfl)
theorem dX7_latestChange_2 : decode cX7_latestChange 2 = .ok (.aload_n 0, 1) := dk_42 (dk_at dksX7_latestChange_0 2 rfl rfl)
theorem dX7_latestChange_3 : decode cX7_latestChange 3 = .ok (.getfield 64, 3) := dk_180 0 64 (dk_at dksX7_latestChange_0 3 rfl rfl)
theorem dX7_latestChange_6 : decode cX7_latestChange 6 = .ok (.getfield 72, 3) := dk_180 0 72 (dk_at dksX7_latestChange_0 6 rfl rfl)
theorem dX7_latestChange_9 : decode cX7_latestChange 9 = .ok (.iconst 1, 1) := dk_4 (dk_at dksX7_latestChange_0 9 rfl rfl)
theorem dX7_latestChange_10 : decode cX7_latestChange 10 = .ok (.iadd, 1) := dk_96 (dk_at dksX7_latestChange_0 10 rfl rfl)
theorem dX7_latestChange_11 : decode cX7_latestChange 11 = .ok (.istore_n 3, 1) := dk_62 (dk_at dksX7_latestChange_0 11 rfl rfl)
theorem dX7_latestChange_12 : decode cX7_latestChange 12 = .ok (.iload_n 3, 1) := dk_29 (dk_at dksX7_latestChange_0 12 rfl rfl)
theorem dX7_latestChange_13 : decode cX7_latestChange 13 = .ok (.iload_n 1, 1) := dk_27 (dk_at dksX7_latestChange_0 13 rfl rfl)
theorem dX7_latestChange_14 : decode cX7_latestChange 14 = .ok (.if_icmp .gt 41, 3) := dk_163 0 41 (dk_at dksX7_latestChange_0 14 rfl rfl)
theorem dX7_latestChange_17 : decode cX7_latestChange 17 = .ok (.aload_n 0, 1) := dk_42 (dk_at dksX7_latestChange_0 17 rfl rfl)
theorem dX7_latestChange_18 : decode cX7_latestChange 18 = .ok (.iload_n 3, 1) := dk_29 (dk_at dksX7_latestChange_0 18 rfl rfl)
theorem dX7_latestChange_19 : decode cX7_latestChange 19 = .ok (.invokevirtual 91, 3) := dk_182 0 91 (dk_at dksX7_latestChange_0 19 rfl rfl)
theorem dX7_latestChange_22 : decode cX7_latestChange 22 = .ok (.getfield 96, 3) := dk_180 0 96 (dk_at dksX7_latestChange_1 0 rfl rfl)
theorem dX7_latestChange_25 : decode cX7_latestChange 25 = .ok (.bipush 106, 2) := dk_16 106 (dk_at dksX7_latestChange_1 3 rfl rfl)
theorem dX7_latestChange_27 : decode cX7_latestChange 27 = .ok (.if_icmp .eq 16, 3) := dk_159 0 16 (dk_at dksX7_latestChange_1 5 rfl rfl)
theorem dX7_latestChange_30 : decode cX7_latestChange 30 = .ok (.aload_n 0, 1) := dk_42 (dk_at dksX7_latestChange_1 8 rfl rfl)
theorem dX7_latestChange_31 : decode cX7_latestChange 31 = .ok (.iload_n 3, 1) := dk_29 (dk_at dksX7_latestChange_1 9 rfl rfl)
theorem dX7_latestChange_32 : decode cX7_latestChange 32 = .ok (.invokevirtual 91, 3) := dk_182 0 91 (dk_at dksX7_latestChange_1 10 rfl rfl)
theorem dX7_latestChange_35 : decode cX7_latestChange 35 = .ok (.getfield 96, 3) := dk_180 0 96 (dk_at dksX7_latestChange_1 13 rfl rfl)
theorem dX7_latestChange_38 : decode cX7_latestChange 38 = .ok (.bipush 110, 2) := dk_16 110 (dk_at dksX7_latestChange_1 16 rfl rfl)
theorem dX7_latestChange_40 : decode cX7_latestChange 40 = .ok (.if_icmp .ne 7, 3) := dk_160 0 7 (dk_at dksX7_latestChange_1 18 rfl rfl)
theorem dX7_latestChange_43 : decode cX7_latestChange 43 = .ok (.iload_n 3, 1) := dk_29 (dk_at dksX7_latestChange_1 21 rfl rfl)
theorem dX7_latestChange_44 : decode cX7_latestChange 44 = .ok (.goto 4, 3) := dk_167 0 4 (dk_at dksX7_latestChange_2 0 rfl rfl)
theorem dX7_latestChange_47 : decode cX7_latestChange 47 = .ok (.iload_n 2, 1) := dk_28 (dk_at dksX7_latestChange_2 3 rfl rfl)
theorem dX7_latestChange_48 : decode cX7_latestChange 48 = .ok (.istore_n 2, 1) := dk_61 (dk_at dksX7_latestChange_2 4 rfl rfl)
theorem dX7_latestChange_49 : decode cX7_latestChange 49 = .ok (.iinc 3 1, 3) := dk_132 3 1 (dk_at dksX7_latestChange_2 5 rfl rfl)
theorem dX7_latestChange_52 : decode cX7_latestChange 52 = .ok (.goto (-40), 3) := dk_167 255 216 (dk_at dksX7_latestChange_2 8 rfl rfl)
theorem dX7_latestChange_55 : decode cX7_latestChange 55 = .ok (.iload_n 2, 1) := dk_28 (dk_at dksX7_latestChange_2 11 rfl rfl)
theorem dX7_latestChange_56 : decode cX7_latestChange 56 = .ok (.ireturn, 1) := dk_172 (dk_at dksX7_latestChange_2 12 rfl rfl)
abbrev cX7_entry : ByteArray := prog_22_method_3_code
def yX7_entry : MethodName := ⟨RX7, "entry", "(I)LQuorumAlmanacModel$Entry;"⟩
def dkwX7_entry_0 : List UInt8 := [42, 180, 0, 30, 27, 42, 180, 0, 64, 180, 0, 72, 100, 4, 100, 182, 0, 79, 192, 0, 83, 176]
abbrev dktX7_entry_0 : List UInt8 := dkwX7_entry_0 ++ []
theorem dksX7_entry_0 : cX7_entry.data.toList.drop 0 = dktX7_entry_0 := by decide +kernel
theorem dX7_entry_0 : decode cX7_entry 0 = .ok (.aload_n 0, 1) := dk_42 (dk_at dksX7_entry_0 0 rfl rfl)
theorem dX7_entry_1 : decode cX7_entry 1 = .ok (.getfield 30, 3) := dk_180 0 30 (dk_at dksX7_entry_0 1 rfl rfl)
theorem dX7_entry_4 : decode cX7_entry 4 = .ok (.iload_n 1, 1) := dk_27 (dk_at dksX7_entry_0 4 rfl rfl)
theorem dX7_entry_5 : decode cX7_entry 5 = .ok (.aload_n 0, 1) := dk_42 (dk_at dksX7_entry_0 5 rfl rfl)
theorem dX7_entry_6 : decode cX7_entry 6 = .ok (.getfield 64, 3) := dk_180 0 64 (dk_at dksX7_entry_0 6 rfl rfl)
theorem dX7_entry_9 : decode cX7_entry 9 = .ok (.getfield 72, 3) := dk_180 0 72 (dk_at dksX7_entry_0 9 rfl rfl)
theorem dX7_entry_12 : decode cX7_entry 12 = .ok (.isub, 1) := dk_100 (dk_at dksX7_entry_0 12 rfl rfl)
theorem dX7_entry_13 : decode cX7_entry 13 = .ok (.iconst 1, 1) := dk_4 (dk_at dksX7_entry_0 13 rfl rfl)
theorem dX7_entry_14 : decode cX7_entry 14 = .ok (.isub, 1) := dk_100 (dk_at dksX7_entry_0 14 rfl rfl)
theorem dX7_entry_15 : decode cX7_entry 15 = .ok (.invokevirtual 79, 3) := dk_182 0 79 (dk_at dksX7_entry_0 15 rfl rfl)
theorem dX7_entry_18 : decode cX7_entry 18 = .ok (.checkcast 83, 3) := dk_192 0 83 (dk_at dksX7_entry_0 18 rfl rfl)
theorem dX7_entry_21 : decode cX7_entry 21 = .ok (.areturn, 1) := dk_176 (dk_at dksX7_entry_0 21 rfl rfl)
abbrev cX7_fresh : ByteArray := prog_22_method_8_code
def yX7_fresh : MethodName := ⟨RX7, "fresh", "(I)I"⟩
def dkwX7_fresh_1 : List UInt8 := [182, 0, 91, 180, 0, 96, 16, 106, 160, 0, 14, 42, 28, 182, 0, 91, 180, 0, 112, 167, 0, 4, 3, 172]
abbrev dktX7_fresh_1 : List UInt8 := dkwX7_fresh_1 ++ []
def dkwX7_fresh_0 : List UInt8 := [42, 27, 182, 0, 99, 61, 28, 154, 0, 13, 42, 180, 0, 64, 180, 0, 109, 167, 0, 28, 42, 28]
abbrev dktX7_fresh_0 : List UInt8 := dkwX7_fresh_0 ++ dktX7_fresh_1
theorem dksX7_fresh_0 : cX7_fresh.data.toList.drop 0 = dktX7_fresh_0 := by decide +kernel
theorem dksX7_fresh_1 : cX7_fresh.data.toList.drop 22 = dktX7_fresh_1 := dk_seg dksX7_fresh_0 22 rfl rfl
theorem dX7_fresh_0 : decode cX7_fresh 0 = .ok (.aload_n 0, 1) := dk_42 (dk_at dksX7_fresh_0 0 rfl rfl)
theorem dX7_fresh_1 : decode cX7_fresh 1 = .ok (.iload_n 1, 1) := dk_27 (dk_at dksX7_fresh_0 1 rfl rfl)
theorem dX7_fresh_2 : decode cX7_fresh 2 = .ok (.invokevirtual 99, 3) := dk_182 0 99 (dk_at dksX7_fresh_0 2 rfl rfl)
theorem dX7_fresh_5 : decode cX7_fresh 5 = .ok (.istore_n 2, 1) := dk_61 (dk_at dksX7_fresh_0 5 rfl rfl)
theorem dX7_fresh_6 : decode cX7_fresh 6 = .ok (.iload_n 2, 1) := dk_28 (dk_at dksX7_fresh_0 6 rfl rfl)
theorem dX7_fresh_7 : decode cX7_fresh 7 = .ok (.ifCond .ne 13, 3) := dk_154 0 13 (dk_at dksX7_fresh_0 7 rfl rfl)
theorem dX7_fresh_10 : decode cX7_fresh 10 = .ok (.aload_n 0, 1) := dk_42 (dk_at dksX7_fresh_0 10 rfl rfl)
theorem dX7_fresh_11 : decode cX7_fresh 11 = .ok (.getfield 64, 3) := dk_180 0 64 (dk_at dksX7_fresh_0 11 rfl rfl)
theorem dX7_fresh_14 : decode cX7_fresh 14 = .ok (.getfield 109, 3) := dk_180 0 109 (dk_at dksX7_fresh_0 14 rfl rfl)
theorem dX7_fresh_17 : decode cX7_fresh 17 = .ok (.goto 28, 3) := dk_167 0 28 (dk_at dksX7_fresh_0 17 rfl rfl)
theorem dX7_fresh_20 : decode cX7_fresh 20 = .ok (.aload_n 0, 1) := dk_42 (dk_at dksX7_fresh_0 20 rfl rfl)
theorem dX7_fresh_21 : decode cX7_fresh 21 = .ok (.iload_n 2, 1) := dk_28 (dk_at dksX7_fresh_0 21 rfl rfl)
theorem dX7_fresh_22 : decode cX7_fresh 22 = .ok (.invokevirtual 91, 3) := dk_182 0 91 (dk_at dksX7_fresh_1 0 rfl rfl)
theorem dX7_fresh_25 : decode cX7_fresh 25 = .ok (.getfield 96, 3) := dk_180 0 96 (dk_at dksX7_fresh_1 3 rfl rfl)
theorem dX7_fresh_28 : decode cX7_fresh 28 = .ok (.bipush 106, 2) := dk_16 106 (dk_at dksX7_fresh_1 6 rfl rfl)
theorem dX7_fresh_30 : decode cX7_fresh 30 = .ok (.if_icmp .ne 14, 3) := dk_160 0 14 (dk_at dksX7_fresh_1 8 rfl rfl)
theorem dX7_fresh_33 : decode cX7_fresh 33 = .ok (.aload_n 0, 1) := dk_42 (dk_at dksX7_fresh_1 11 rfl rfl)
theorem dX7_fresh_34 : decode cX7_fresh 34 = .ok (.iload_n 2, 1) := dk_28 (dk_at dksX7_fresh_1 12 rfl rfl)
theorem dX7_fresh_35 : decode cX7_fresh 35 = .ok (.invokevirtual 91, 3) := dk_182 0 91 (dk_at dksX7_fresh_1 13 rfl rfl)
theorem dX7_fresh_38 : decode cX7_fresh 38 = .ok (.getfield 112, 3) := dk_180 0 112 (dk_at dksX7_fresh_1 16 rfl rfl)
theorem dX7_fresh_41 : decode cX7_fresh 41 = .ok (.goto 4, 3) := dk_167 0 4 (dk_at dksX7_fresh_1 19 rfl rfl)
theorem dX7_fresh_44 : decode cX7_fresh 44 = .ok (.iconst 0, 1) := dk_3 (dk_at dksX7_fresh_1 22 rfl rfl)
theorem dX7_fresh_45 : decode cX7_fresh 45 = .ok (.ireturn, 1) := dk_172 (dk_at dksX7_fresh_1 23 rfl rfl)
abbrev cX7_sends : ByteArray := prog_22_method_17_code
def yX7_sends : MethodName := ⟨RX7, "sends", "(I)V"⟩
def dkwX7_sends_7 : List UInt8 := [182, 0, 91, 182, 0, 204, 54, 5, 132, 4, 1, 167, 255, 216, 177]
abbrev dktX7_sends_7 : List UInt8 := dkwX7_sends_7 ++ []
def dkwX7_sends_6 : List UInt8 := [163, 0, 37, 21, 4, 42, 180, 0, 40, 27, 46, 7, 96, 162, 0, 24, 45, 180, 0, 226, 42, 21, 4]
abbrev dktX7_sends_6 : List UInt8 := dkwX7_sends_6 ++ dktX7_sends_7
def dkwX7_sends_5 : List UInt8 := [187, 0, 27, 89, 183, 0, 29, 181, 0, 226, 42, 180, 0, 40, 27, 46, 54, 4, 21, 4, 42, 182, 0, 85]
abbrev dktX7_sends_5 : List UInt8 := dkwX7_sends_5 ++ dktX7_sends_6
def dkwX7_sends_4 : List UInt8 := [180, 0, 40, 27, 46, 4, 100, 182, 0, 188, 181, 0, 191, 45, 42, 180, 0, 220, 181, 0, 223, 45]
abbrev dktX7_sends_4 : List UInt8 := dkwX7_sends_4 ++ dktX7_sends_5
def dkwX7_sends_3 : List UInt8 := [180, 0, 64, 181, 0, 219, 177, 45, 42, 180, 0, 40, 27, 46, 4, 100, 181, 0, 187, 45, 42, 42]
abbrev dktX7_sends_3 : List UInt8 := dkwX7_sends_3 ++ dktX7_sends_4
def dkwX7_sends_2 : List UInt8 := [42, 180, 0, 126, 181, 0, 184, 45, 42, 180, 0, 50, 182, 0, 75, 181, 0, 216, 28, 153, 0, 12, 45, 42]
abbrev dktX7_sends_2 : List UInt8 := dkwX7_sends_2 ++ dktX7_sends_3
def dkwX7_sends_1 : List UInt8 := [180, 0, 3, 28, 153, 0, 8, 16, 115, 167, 0, 5, 16, 97, 42, 180, 0, 53, 27, 182, 0, 180, 78, 45]
abbrev dktX7_sends_1 : List UInt8 := dkwX7_sends_1 ++ dktX7_sends_2
def dkwX7_sends_0 : List UInt8 := [42, 180, 0, 40, 27, 46, 42, 180, 0, 64, 180, 0, 72, 163, 0, 7, 4, 167, 0, 4, 3, 61, 42]
abbrev dktX7_sends_0 : List UInt8 := dkwX7_sends_0 ++ dktX7_sends_1
theorem dksX7_sends_0 : cX7_sends.data.toList.drop 0 = dktX7_sends_0 := by decide +kernel
theorem dksX7_sends_1 : cX7_sends.data.toList.drop 23 = dktX7_sends_1 := dk_seg dksX7_sends_0 23 rfl rfl
theorem dksX7_sends_2 : cX7_sends.data.toList.drop 47 = dktX7_sends_2 := dk_seg dksX7_sends_1 24 rfl rfl
theorem dksX7_sends_3 : cX7_sends.data.toList.drop 71 = dktX7_sends_3 := dk_seg dksX7_sends_2 24 rfl rfl
theorem dksX7_sends_4 : cX7_sends.data.toList.drop 93 = dktX7_sends_4 := dk_seg dksX7_sends_3 22 rfl rfl
theorem dksX7_sends_5 : cX7_sends.data.toList.drop 115 = dktX7_sends_5 := dk_seg dksX7_sends_4 22 rfl rfl
theorem dksX7_sends_6 : cX7_sends.data.toList.drop 139 = dktX7_sends_6 := dk_seg dksX7_sends_5 24 rfl rfl
theorem dksX7_sends_7 : cX7_sends.data.toList.drop 162 = dktX7_sends_7 := dk_seg dksX7_sends_6 23 rfl rfl
theorem dX7_sends_0 : decode cX7_sends 0 = .ok (.aload_n 0, 1) := dk_42 (dk_at dksX7_sends_0 0 rfl rfl)
theorem dX7_sends_1 : decode cX7_sends 1 = .ok (.getfield 40, 3) := dk_180 0 40 (dk_at dksX7_sends_0 1 rfl rfl)
theorem dX7_sends_4 : decode cX7_sends 4 = .ok (.iload_n 1, 1) := dk_27 (dk_at dksX7_sends_0 4 rfl rfl)
theorem dX7_sends_5 : decode cX7_sends 5 = .ok (.iaload, 1) := dk_46 (dk_at dksX7_sends_0 5 rfl rfl)
theorem dX7_sends_6 : decode cX7_sends 6 = .ok (.aload_n 0, 1) := dk_42 (dk_at dksX7_sends_0 6 rfl rfl)
theorem dX7_sends_7 : decode cX7_sends 7 = .ok (.getfield 64, 3) := dk_180 0 64 (dk_at dksX7_sends_0 7 rfl rfl)
theorem dX7_sends_10 : decode cX7_sends 10 = .ok (.getfield 72, 3) := dk_180 0 72 (dk_at dksX7_sends_0 10 rfl rfl)
theorem dX7_sends_13 : decode cX7_sends 13 = .ok (.if_icmp .gt 7, 3) := dk_163 0 7 (dk_at dksX7_sends_0 13 rfl rfl)
theorem dX7_sends_16 : decode cX7_sends 16 = .ok (.iconst 1, 1) := dk_4 (dk_at dksX7_sends_0 16 rfl rfl)
theorem dX7_sends_17 : decode cX7_sends 17 = .ok (.goto 4, 3) := dk_167 0 4 (dk_at dksX7_sends_0 17 rfl rfl)
theorem dX7_sends_20 : decode cX7_sends 20 = .ok (.iconst 0, 1) := dk_3 (dk_at dksX7_sends_0 20 rfl rfl)
theorem dX7_sends_21 : decode cX7_sends 21 = .ok (.istore_n 2, 1) := dk_61 (dk_at dksX7_sends_0 21 rfl rfl)
theorem dX7_sends_22 : decode cX7_sends 22 = .ok (.aload_n 0, 1) := dk_42 (dk_at dksX7_sends_0 22 rfl rfl)
theorem dX7_sends_23 : decode cX7_sends 23 = .ok (.getfield 3, 3) := dk_180 0 3 (dk_at dksX7_sends_1 0 rfl rfl)
theorem dX7_sends_26 : decode cX7_sends 26 = .ok (.iload_n 2, 1) := dk_28 (dk_at dksX7_sends_1 3 rfl rfl)
theorem dX7_sends_27 : decode cX7_sends 27 = .ok (.ifCond .eq 8, 3) := dk_153 0 8 (dk_at dksX7_sends_1 4 rfl rfl)
theorem dX7_sends_30 : decode cX7_sends 30 = .ok (.bipush 115, 2) := dk_16 115 (dk_at dksX7_sends_1 7 rfl rfl)
theorem dX7_sends_32 : decode cX7_sends 32 = .ok (.goto 5, 3) := dk_167 0 5 (dk_at dksX7_sends_1 9 rfl rfl)
theorem dX7_sends_35 : decode cX7_sends 35 = .ok (.bipush 97, 2) := dk_16 97 (dk_at dksX7_sends_1 12 rfl rfl)
theorem dX7_sends_37 : decode cX7_sends 37 = .ok (.aload_n 0, 1) := dk_42 (dk_at dksX7_sends_1 14 rfl rfl)
theorem dX7_sends_38 : decode cX7_sends 38 = .ok (.getfield 53, 3) := dk_180 0 53 (dk_at dksX7_sends_1 15 rfl rfl)
theorem dX7_sends_41 : decode cX7_sends 41 = .ok (.iload_n 1, 1) := dk_27 (dk_at dksX7_sends_1 18 rfl rfl)
theorem dX7_sends_42 : decode cX7_sends 42 = .ok (.invokevirtual 180, 3) := dk_182 0 180 (dk_at dksX7_sends_1 19 rfl rfl)
theorem dX7_sends_45 : decode cX7_sends 45 = .ok (.astore_n 3, 1) := dk_78 (dk_at dksX7_sends_1 22 rfl rfl)
theorem dX7_sends_46 : decode cX7_sends 46 = .ok (.aload_n 3, 1) := dk_45 (dk_at dksX7_sends_1 23 rfl rfl)
theorem dX7_sends_47 : decode cX7_sends 47 = .ok (.aload_n 0, 1) := dk_42 (dk_at dksX7_sends_2 0 rfl rfl)
theorem dX7_sends_48 : decode cX7_sends 48 = .ok (.getfield 126, 3) := dk_180 0 126 (dk_at dksX7_sends_2 1 rfl rfl)
theorem dX7_sends_51 : decode cX7_sends 51 = .ok (.putfield 184, 3) := dk_181 0 184 (dk_at dksX7_sends_2 4 rfl rfl)
theorem dX7_sends_54 : decode cX7_sends 54 = .ok (.aload_n 3, 1) := dk_45 (dk_at dksX7_sends_2 7 rfl rfl)
theorem dX7_sends_55 : decode cX7_sends 55 = .ok (.aload_n 0, 1) := dk_42 (dk_at dksX7_sends_2 8 rfl rfl)
theorem dX7_sends_56 : decode cX7_sends 56 = .ok (.getfield 50, 3) := dk_180 0 50 (dk_at dksX7_sends_2 9 rfl rfl)
theorem dX7_sends_59 : decode cX7_sends 59 = .ok (.invokevirtual 75, 3) := dk_182 0 75 (dk_at dksX7_sends_2 12 rfl rfl)
theorem dX7_sends_62 : decode cX7_sends 62 = .ok (.putfield 216, 3) := dk_181 0 216 (dk_at dksX7_sends_2 15 rfl rfl)
theorem dX7_sends_65 : decode cX7_sends 65 = .ok (.iload_n 2, 1) := dk_28 (dk_at dksX7_sends_2 18 rfl rfl)
theorem dX7_sends_66 : decode cX7_sends 66 = .ok (.ifCond .eq 12, 3) := dk_153 0 12 (dk_at dksX7_sends_2 19 rfl rfl)
theorem dX7_sends_69 : decode cX7_sends 69 = .ok (.aload_n 3, 1) := dk_45 (dk_at dksX7_sends_2 22 rfl rfl)
theorem dX7_sends_70 : decode cX7_sends 70 = .ok (.aload_n 0, 1) := dk_42 (dk_at dksX7_sends_2 23 rfl rfl)
theorem dX7_sends_71 : decode cX7_sends 71 = .ok (.getfield 64, 3) := dk_180 0 64 (dk_at dksX7_sends_3 0 rfl rfl)
theorem dX7_sends_74 : decode cX7_sends 74 = .ok (.putfield 219, 3) := dk_181 0 219 (dk_at dksX7_sends_3 3 rfl rfl)
theorem dX7_sends_77 : decode cX7_sends 77 = .ok (.return_, 1) := dk_177 (dk_at dksX7_sends_3 6 rfl rfl)
theorem dX7_sends_78 : decode cX7_sends 78 = .ok (.aload_n 3, 1) := dk_45 (dk_at dksX7_sends_3 7 rfl rfl)
theorem dX7_sends_79 : decode cX7_sends 79 = .ok (.aload_n 0, 1) := dk_42 (dk_at dksX7_sends_3 8 rfl rfl)
theorem dX7_sends_80 : decode cX7_sends 80 = .ok (.getfield 40, 3) := dk_180 0 40 (dk_at dksX7_sends_3 9 rfl rfl)
theorem dX7_sends_83 : decode cX7_sends 83 = .ok (.iload_n 1, 1) := dk_27 (dk_at dksX7_sends_3 12 rfl rfl)
theorem dX7_sends_84 : decode cX7_sends 84 = .ok (.iaload, 1) := dk_46 (dk_at dksX7_sends_3 13 rfl rfl)
theorem dX7_sends_85 : decode cX7_sends 85 = .ok (.iconst 1, 1) := dk_4 (dk_at dksX7_sends_3 14 rfl rfl)
theorem dX7_sends_86 : decode cX7_sends 86 = .ok (.isub, 1) := dk_100 (dk_at dksX7_sends_3 15 rfl rfl)
theorem dX7_sends_87 : decode cX7_sends 87 = .ok (.putfield 187, 3) := dk_181 0 187 (dk_at dksX7_sends_3 16 rfl rfl)
theorem dX7_sends_90 : decode cX7_sends 90 = .ok (.aload_n 3, 1) := dk_45 (dk_at dksX7_sends_3 19 rfl rfl)
theorem dX7_sends_91 : decode cX7_sends 91 = .ok (.aload_n 0, 1) := dk_42 (dk_at dksX7_sends_3 20 rfl rfl)
theorem dX7_sends_92 : decode cX7_sends 92 = .ok (.aload_n 0, 1) := dk_42 (dk_at dksX7_sends_3 21 rfl rfl)
theorem dX7_sends_93 : decode cX7_sends 93 = .ok (.getfield 40, 3) := dk_180 0 40 (dk_at dksX7_sends_4 0 rfl rfl)
theorem dX7_sends_96 : decode cX7_sends 96 = .ok (.iload_n 1, 1) := dk_27 (dk_at dksX7_sends_4 3 rfl rfl)
theorem dX7_sends_97 : decode cX7_sends 97 = .ok (.iaload, 1) := dk_46 (dk_at dksX7_sends_4 4 rfl rfl)
theorem dX7_sends_98 : decode cX7_sends 98 = .ok (.iconst 1, 1) := dk_4 (dk_at dksX7_sends_4 5 rfl rfl)
theorem dX7_sends_99 : decode cX7_sends 99 = .ok (.isub, 1) := dk_100 (dk_at dksX7_sends_4 6 rfl rfl)
theorem dX7_sends_100 : decode cX7_sends 100 = .ok (.invokevirtual 188, 3) := dk_182 0 188 (dk_at dksX7_sends_4 7 rfl rfl)
theorem dX7_sends_103 : decode cX7_sends 103 = .ok (.putfield 191, 3) := dk_181 0 191 (dk_at dksX7_sends_4 10 rfl rfl)
theorem dX7_sends_106 : decode cX7_sends 106 = .ok (.aload_n 3, 1) := dk_45 (dk_at dksX7_sends_4 13 rfl rfl)
theorem dX7_sends_107 : decode cX7_sends 107 = .ok (.aload_n 0, 1) := dk_42 (dk_at dksX7_sends_4 14 rfl rfl)
theorem dX7_sends_108 : decode cX7_sends 108 = .ok (.getfield 220, 3) := dk_180 0 220 (dk_at dksX7_sends_4 15 rfl rfl)
theorem dX7_sends_111 : decode cX7_sends 111 = .ok (.putfield 223, 3) := dk_181 0 223 (dk_at dksX7_sends_4 18 rfl rfl)
theorem dX7_sends_114 : decode cX7_sends 114 = .ok (.aload_n 3, 1) := dk_45 (dk_at dksX7_sends_4 21 rfl rfl)
theorem dX7_sends_115 : decode cX7_sends 115 = .ok (.new 27, 3) := dk_187 0 27 (dk_at dksX7_sends_5 0 rfl rfl)
theorem dX7_sends_118 : decode cX7_sends 118 = .ok (.dup, 1) := dk_89 (dk_at dksX7_sends_5 3 rfl rfl)
theorem dX7_sends_119 : decode cX7_sends 119 = .ok (.invokespecial 29, 3) := dk_183 0 29 (dk_at dksX7_sends_5 4 rfl rfl)
theorem dX7_sends_122 : decode cX7_sends 122 = .ok (.putfield 226, 3) := dk_181 0 226 (dk_at dksX7_sends_5 7 rfl rfl)
theorem dX7_sends_125 : decode cX7_sends 125 = .ok (.aload_n 0, 1) := dk_42 (dk_at dksX7_sends_5 10 rfl rfl)
theorem dX7_sends_126 : decode cX7_sends 126 = .ok (.getfield 40, 3) := dk_180 0 40 (dk_at dksX7_sends_5 11 rfl rfl)
theorem dX7_sends_129 : decode cX7_sends 129 = .ok (.iload_n 1, 1) := dk_27 (dk_at dksX7_sends_5 14 rfl rfl)
theorem dX7_sends_130 : decode cX7_sends 130 = .ok (.iaload, 1) := dk_46 (dk_at dksX7_sends_5 15 rfl rfl)
theorem dX7_sends_131 : decode cX7_sends 131 = .ok (.istore 4, 2) := dk_54 4 (dk_at dksX7_sends_5 16 rfl rfl)
theorem dX7_sends_133 : decode cX7_sends 133 = .ok (.iload 4, 2) := dk_21 4 (dk_at dksX7_sends_5 18 rfl rfl)
theorem dX7_sends_135 : decode cX7_sends 135 = .ok (.aload_n 0, 1) := dk_42 (dk_at dksX7_sends_5 20 rfl rfl)
theorem dX7_sends_136 : decode cX7_sends 136 = .ok (.invokevirtual 85, 3) := dk_182 0 85 (dk_at dksX7_sends_5 21 rfl rfl)
theorem dX7_sends_139 : decode cX7_sends 139 = .ok (.if_icmp .gt 37, 3) := dk_163 0 37 (dk_at dksX7_sends_6 0 rfl rfl)
theorem dX7_sends_142 : decode cX7_sends 142 = .ok (.iload 4, 2) := dk_21 4 (dk_at dksX7_sends_6 3 rfl rfl)
theorem dX7_sends_144 : decode cX7_sends 144 = .ok (.aload_n 0, 1) := dk_42 (dk_at dksX7_sends_6 5 rfl rfl)
theorem dX7_sends_145 : decode cX7_sends 145 = .ok (.getfield 40, 3) := dk_180 0 40 (dk_at dksX7_sends_6 6 rfl rfl)
theorem dX7_sends_148 : decode cX7_sends 148 = .ok (.iload_n 1, 1) := dk_27 (dk_at dksX7_sends_6 9 rfl rfl)
theorem dX7_sends_149 : decode cX7_sends 149 = .ok (.iaload, 1) := dk_46 (dk_at dksX7_sends_6 10 rfl rfl)
theorem dX7_sends_150 : decode cX7_sends 150 = .ok (.iconst 4, 1) := dk_7 (dk_at dksX7_sends_6 11 rfl rfl)
theorem dX7_sends_151 : decode cX7_sends 151 = .ok (.iadd, 1) := dk_96 (dk_at dksX7_sends_6 12 rfl rfl)
theorem dX7_sends_152 : decode cX7_sends 152 = .ok (.if_icmp .ge 24, 3) := dk_162 0 24 (dk_at dksX7_sends_6 13 rfl rfl)
theorem dX7_sends_155 : decode cX7_sends 155 = .ok (.aload_n 3, 1) := dk_45 (dk_at dksX7_sends_6 16 rfl rfl)
theorem dX7_sends_156 : decode cX7_sends 156 = .ok (.getfield 226, 3) := dk_180 0 226 (dk_at dksX7_sends_6 17 rfl rfl)
theorem dX7_sends_159 : decode cX7_sends 159 = .ok (.aload_n 0, 1) := dk_42 (dk_at dksX7_sends_6 20 rfl rfl)
theorem dX7_sends_160 : decode cX7_sends 160 = .ok (.iload 4, 2) := dk_21 4 (dk_at dksX7_sends_6 21 rfl rfl)
theorem dX7_sends_162 : decode cX7_sends 162 = .ok (.invokevirtual 91, 3) := dk_182 0 91 (dk_at dksX7_sends_7 0 rfl rfl)
theorem dX7_sends_165 : decode cX7_sends 165 = .ok (.invokevirtual 204, 3) := dk_182 0 204 (dk_at dksX7_sends_7 3 rfl rfl)
theorem dX7_sends_168 : decode cX7_sends 168 = .ok (.istore 5, 2) := dk_54 5 (dk_at dksX7_sends_7 6 rfl rfl)
theorem dX7_sends_170 : decode cX7_sends 170 = .ok (.iinc 4 1, 3) := dk_132 4 1 (dk_at dksX7_sends_7 8 rfl rfl)
theorem dX7_sends_173 : decode cX7_sends 173 = .ok (.goto (-40), 3) := dk_167 255 216 (dk_at dksX7_sends_7 11 rfl rfl)
theorem dX7_sends_176 : decode cX7_sends 176 = .ok (.return_, 1) := dk_177 (dk_at dksX7_sends_7 14 rfl rfl)
abbrev cX7_termAt : ByteArray := prog_22_method_5_code
def yX7_termAt : MethodName := ⟨RX7, "termAt", "(I)I"⟩
def dkwX7_termAt_1 : List UInt8 := [182, 0, 91, 180, 0, 95, 172]
abbrev dktX7_termAt_1 : List UInt8 := dkwX7_termAt_1 ++ []
def dkwX7_termAt_0 : List UInt8 := [27, 42, 180, 0, 64, 180, 0, 72, 160, 0, 13, 42, 180, 0, 64, 180, 0, 88, 167, 0, 11, 42, 27]
abbrev dktX7_termAt_0 : List UInt8 := dkwX7_termAt_0 ++ dktX7_termAt_1
theorem dksX7_termAt_0 : cX7_termAt.data.toList.drop 0 = dktX7_termAt_0 := by decide +kernel
theorem dksX7_termAt_1 : cX7_termAt.data.toList.drop 23 = dktX7_termAt_1 := dk_seg dksX7_termAt_0 23 rfl rfl
theorem dX7_termAt_0 : decode cX7_termAt 0 = .ok (.iload_n 1, 1) := dk_27 (dk_at dksX7_termAt_0 0 rfl rfl)
theorem dX7_termAt_1 : decode cX7_termAt 1 = .ok (.aload_n 0, 1) := dk_42 (dk_at dksX7_termAt_0 1 rfl rfl)
theorem dX7_termAt_2 : decode cX7_termAt 2 = .ok (.getfield 64, 3) := dk_180 0 64 (dk_at dksX7_termAt_0 2 rfl rfl)
theorem dX7_termAt_5 : decode cX7_termAt 5 = .ok (.getfield 72, 3) := dk_180 0 72 (dk_at dksX7_termAt_0 5 rfl rfl)
theorem dX7_termAt_8 : decode cX7_termAt 8 = .ok (.if_icmp .ne 13, 3) := dk_160 0 13 (dk_at dksX7_termAt_0 8 rfl rfl)
theorem dX7_termAt_11 : decode cX7_termAt 11 = .ok (.aload_n 0, 1) := dk_42 (dk_at dksX7_termAt_0 11 rfl rfl)
theorem dX7_termAt_12 : decode cX7_termAt 12 = .ok (.getfield 64, 3) := dk_180 0 64 (dk_at dksX7_termAt_0 12 rfl rfl)
theorem dX7_termAt_15 : decode cX7_termAt 15 = .ok (.getfield 88, 3) := dk_180 0 88 (dk_at dksX7_termAt_0 15 rfl rfl)
theorem dX7_termAt_18 : decode cX7_termAt 18 = .ok (.goto 11, 3) := dk_167 0 11 (dk_at dksX7_termAt_0 18 rfl rfl)
theorem dX7_termAt_21 : decode cX7_termAt 21 = .ok (.aload_n 0, 1) := dk_42 (dk_at dksX7_termAt_0 21 rfl rfl)
theorem dX7_termAt_22 : decode cX7_termAt 22 = .ok (.iload_n 1, 1) := dk_27 (dk_at dksX7_termAt_0 22 rfl rfl)
theorem dX7_termAt_23 : decode cX7_termAt 23 = .ok (.invokevirtual 91, 3) := dk_182 0 91 (dk_at dksX7_termAt_1 0 rfl rfl)
theorem dX7_termAt_26 : decode cX7_termAt 26 = .ok (.getfield 95, 3) := dk_180 0 95 (dk_at dksX7_termAt_1 3 rfl rfl)
theorem dX7_termAt_29 : decode cX7_termAt 29 = .ok (.ireturn, 1) := dk_172 (dk_at dksX7_termAt_1 6 rfl rfl)
abbrev cX7_isMember : ByteArray := prog_22_method_11_code
def yX7_isMember : MethodName := ⟨RX7, "isMember", "()Z"⟩
def dkwX7_isMember_0 : List UInt8 := [42, 182, 0, 123, 42, 180, 0, 53, 122, 4, 126, 4, 160, 0, 7, 4, 167, 0, 4, 3, 172]
abbrev dktX7_isMember_0 : List UInt8 := dkwX7_isMember_0 ++ []
theorem dksX7_isMember_0 : cX7_isMember.data.toList.drop 0 = dktX7_isMember_0 := by decide +kernel
theorem dX7_isMember_0 : decode cX7_isMember 0 = .ok (.aload_n 0, 1) := dk_42 (dk_at dksX7_isMember_0 0 rfl rfl)
theorem dX7_isMember_1 : decode cX7_isMember 1 = .ok (.invokevirtual 123, 3) := dk_182 0 123 (dk_at dksX7_isMember_0 1 rfl rfl)
theorem dX7_isMember_4 : decode cX7_isMember 4 = .ok (.aload_n 0, 1) := dk_42 (dk_at dksX7_isMember_0 4 rfl rfl)
theorem dX7_isMember_5 : decode cX7_isMember 5 = .ok (.getfield 53, 3) := dk_180 0 53 (dk_at dksX7_isMember_0 5 rfl rfl)
theorem dX7_isMember_8 : decode cX7_isMember 8 = .ok (.ishr, 1) := dk_122 (dk_at dksX7_isMember_0 8 rfl rfl)
theorem dX7_isMember_9 : decode cX7_isMember 9 = .ok (.iconst 1, 1) := dk_4 (dk_at dksX7_isMember_0 9 rfl rfl)
theorem dX7_isMember_10 : decode cX7_isMember 10 = .ok (.iand, 1) := dk_126 (dk_at dksX7_isMember_0 10 rfl rfl)
theorem dX7_isMember_11 : decode cX7_isMember 11 = .ok (.iconst 1, 1) := dk_4 (dk_at dksX7_isMember_0 11 rfl rfl)
theorem dX7_isMember_12 : decode cX7_isMember 12 = .ok (.if_icmp .ne 7, 3) := dk_160 0 7 (dk_at dksX7_isMember_0 12 rfl rfl)
theorem dX7_isMember_15 : decode cX7_isMember 15 = .ok (.iconst 1, 1) := dk_4 (dk_at dksX7_isMember_0 15 rfl rfl)
theorem dX7_isMember_16 : decode cX7_isMember 16 = .ok (.goto 4, 3) := dk_167 0 4 (dk_at dksX7_isMember_0 16 rfl rfl)
theorem dX7_isMember_19 : decode cX7_isMember 19 = .ok (.iconst 0, 1) := dk_3 (dk_at dksX7_isMember_0 19 rfl rfl)
theorem dX7_isMember_20 : decode cX7_isMember 20 = .ok (.ireturn, 1) := dk_172 (dk_at dksX7_isMember_0 20 rfl rfl)
abbrev cX7_wins : ByteArray := prog_22_method_15_code
def yX7_wins : MethodName := ⟨RX7, "wins", "()V"⟩
def dkwX7_wins_4 : List UInt8 := [42, 180, 0, 126, 16, 111, 3, 3, 183, 0, 201, 182, 0, 204, 60, 42, 182, 0, 168, 177]
abbrev dktX7_wins_4 : List UInt8 := dkwX7_wins_4 ++ []
def dkwX7_wins_3 : List UInt8 := [79, 132, 1, 1, 167, 255, 222, 42, 182, 0, 85, 16, 80, 162, 0, 26, 42, 180, 0, 30, 187, 0, 83, 89]
abbrev dktX7_wins_3 : List UInt8 := dkwX7_wins_3 ++ dktX7_wins_4
def dkwX7_wins_2 : List UInt8 := [180, 0, 40, 27, 42, 182, 0, 85, 4, 96, 79, 42, 180, 0, 44, 27, 3, 79, 42, 180, 0, 47, 27, 3]
abbrev dktX7_wins_2 : List UInt8 := dkwX7_wins_2 ++ dktX7_wins_3
def dkwX7_wins_1 : List UInt8 := [181, 0, 19, 42, 187, 0, 27, 89, 183, 0, 29, 181, 0, 50, 3, 60, 27, 8, 162, 0, 35, 42]
abbrev dktX7_wins_1 : List UInt8 := dkwX7_wins_1 ++ dktX7_wins_2
def dkwX7_wins_0 : List UInt8 := [42, 180, 0, 19, 16, 99, 160, 0, 14, 42, 42, 180, 0, 177, 182, 0, 197, 154, 0, 4, 177, 42, 16, 108]
abbrev dktX7_wins_0 : List UInt8 := dkwX7_wins_0 ++ dktX7_wins_1
theorem dksX7_wins_0 : cX7_wins.data.toList.drop 0 = dktX7_wins_0 := by decide +kernel
theorem dksX7_wins_1 : cX7_wins.data.toList.drop 24 = dktX7_wins_1 := dk_seg dksX7_wins_0 24 rfl rfl
theorem dksX7_wins_2 : cX7_wins.data.toList.drop 46 = dktX7_wins_2 := dk_seg dksX7_wins_1 22 rfl rfl
theorem dksX7_wins_3 : cX7_wins.data.toList.drop 70 = dktX7_wins_3 := dk_seg dksX7_wins_2 24 rfl rfl
theorem dksX7_wins_4 : cX7_wins.data.toList.drop 94 = dktX7_wins_4 := dk_seg dksX7_wins_3 24 rfl rfl
theorem dX7_wins_0 : decode cX7_wins 0 = .ok (.aload_n 0, 1) := dk_42 (dk_at dksX7_wins_0 0 rfl rfl)
theorem dX7_wins_1 : decode cX7_wins 1 = .ok (.getfield 19, 3) := dk_180 0 19 (dk_at dksX7_wins_0 1 rfl rfl)
theorem dX7_wins_4 : decode cX7_wins 4 = .ok (.bipush 99, 2) := dk_16 99 (dk_at dksX7_wins_0 4 rfl rfl)
theorem dX7_wins_6 : decode cX7_wins 6 = .ok (.if_icmp .ne 14, 3) := dk_160 0 14 (dk_at dksX7_wins_0 6 rfl rfl)
theorem dX7_wins_9 : decode cX7_wins 9 = .ok (.aload_n 0, 1) := dk_42 (dk_at dksX7_wins_0 9 rfl rfl)
theorem dX7_wins_10 : decode cX7_wins 10 = .ok (.aload_n 0, 1) := dk_42 (dk_at dksX7_wins_0 10 rfl rfl)
theorem dX7_wins_11 : decode cX7_wins 11 = .ok (.getfield 177, 3) := dk_180 0 177 (dk_at dksX7_wins_0 11 rfl rfl)
theorem dX7_wins_14 : decode cX7_wins 14 = .ok (.invokevirtual 197, 3) := dk_182 0 197 (dk_at dksX7_wins_0 14 rfl rfl)
theorem dX7_wins_17 : decode cX7_wins 17 = .ok (.ifCond .ne 4, 3) := dk_154 0 4 (dk_at dksX7_wins_0 17 rfl rfl)
theorem dX7_wins_20 : decode cX7_wins 20 = .ok (.return_, 1) := dk_177 (dk_at dksX7_wins_0 20 rfl rfl)
theorem dX7_wins_21 : decode cX7_wins 21 = .ok (.aload_n 0, 1) := dk_42 (dk_at dksX7_wins_0 21 rfl rfl)
theorem dX7_wins_22 : decode cX7_wins 22 = .ok (.bipush 108, 2) := dk_16 108 (dk_at dksX7_wins_0 22 rfl rfl)
theorem dX7_wins_24 : decode cX7_wins 24 = .ok (.putfield 19, 3) := dk_181 0 19 (dk_at dksX7_wins_1 0 rfl rfl)
theorem dX7_wins_27 : decode cX7_wins 27 = .ok (.aload_n 0, 1) := dk_42 (dk_at dksX7_wins_1 3 rfl rfl)
theorem dX7_wins_28 : decode cX7_wins 28 = .ok (.new 27, 3) := dk_187 0 27 (dk_at dksX7_wins_1 4 rfl rfl)
theorem dX7_wins_31 : decode cX7_wins 31 = .ok (.dup, 1) := dk_89 (dk_at dksX7_wins_1 7 rfl rfl)
theorem dX7_wins_32 : decode cX7_wins 32 = .ok (.invokespecial 29, 3) := dk_183 0 29 (dk_at dksX7_wins_1 8 rfl rfl)
theorem dX7_wins_35 : decode cX7_wins 35 = .ok (.putfield 50, 3) := dk_181 0 50 (dk_at dksX7_wins_1 11 rfl rfl)
theorem dX7_wins_38 : decode cX7_wins 38 = .ok (.iconst 0, 1) := dk_3 (dk_at dksX7_wins_1 14 rfl rfl)
theorem dX7_wins_39 : decode cX7_wins 39 = .ok (.istore_n 1, 1) := dk_60 (dk_at dksX7_wins_1 15 rfl rfl)
theorem dX7_wins_40 : decode cX7_wins 40 = .ok (.iload_n 1, 1) := dk_27 (dk_at dksX7_wins_1 16 rfl rfl)
theorem dX7_wins_41 : decode cX7_wins 41 = .ok (.iconst 5, 1) := dk_8 (dk_at dksX7_wins_1 17 rfl rfl)
theorem dX7_wins_42 : decode cX7_wins 42 = .ok (.if_icmp .ge 35, 3) := dk_162 0 35 (dk_at dksX7_wins_1 18 rfl rfl)
theorem dX7_wins_45 : decode cX7_wins 45 = .ok (.aload_n 0, 1) := dk_42 (dk_at dksX7_wins_1 21 rfl rfl)
theorem dX7_wins_46 : decode cX7_wins 46 = .ok (.getfield 40, 3) := dk_180 0 40 (dk_at dksX7_wins_2 0 rfl rfl)
theorem dX7_wins_49 : decode cX7_wins 49 = .ok (.iload_n 1, 1) := dk_27 (dk_at dksX7_wins_2 3 rfl rfl)
theorem dX7_wins_50 : decode cX7_wins 50 = .ok (.aload_n 0, 1) := dk_42 (dk_at dksX7_wins_2 4 rfl rfl)
theorem dX7_wins_51 : decode cX7_wins 51 = .ok (.invokevirtual 85, 3) := dk_182 0 85 (dk_at dksX7_wins_2 5 rfl rfl)
theorem dX7_wins_54 : decode cX7_wins 54 = .ok (.iconst 1, 1) := dk_4 (dk_at dksX7_wins_2 8 rfl rfl)
theorem dX7_wins_55 : decode cX7_wins 55 = .ok (.iadd, 1) := dk_96 (dk_at dksX7_wins_2 9 rfl rfl)
theorem dX7_wins_56 : decode cX7_wins 56 = .ok (.iastore, 1) := dk_79 (dk_at dksX7_wins_2 10 rfl rfl)
theorem dX7_wins_57 : decode cX7_wins 57 = .ok (.aload_n 0, 1) := dk_42 (dk_at dksX7_wins_2 11 rfl rfl)
theorem dX7_wins_58 : decode cX7_wins 58 = .ok (.getfield 44, 3) := dk_180 0 44 (dk_at dksX7_wins_2 12 rfl rfl)
theorem dX7_wins_61 : decode cX7_wins 61 = .ok (.iload_n 1, 1) := dk_27 (dk_at dksX7_wins_2 15 rfl rfl)
theorem dX7_wins_62 : decode cX7_wins 62 = .ok (.iconst 0, 1) := dk_3 (dk_at dksX7_wins_2 16 rfl rfl)
theorem dX7_wins_63 : decode cX7_wins 63 = .ok (.iastore, 1) := dk_79 (dk_at dksX7_wins_2 17 rfl rfl)
theorem dX7_wins_64 : decode cX7_wins 64 = .ok (.aload_n 0, 1) := dk_42 (dk_at dksX7_wins_2 18 rfl rfl)
theorem dX7_wins_65 : decode cX7_wins 65 = .ok (.getfield 47, 3) := dk_180 0 47 (dk_at dksX7_wins_2 19 rfl rfl)
theorem dX7_wins_68 : decode cX7_wins 68 = .ok (.iload_n 1, 1) := dk_27 (dk_at dksX7_wins_2 22 rfl rfl)
theorem dX7_wins_69 : decode cX7_wins 69 = .ok (.iconst 0, 1) := dk_3 (dk_at dksX7_wins_2 23 rfl rfl)
theorem dX7_wins_70 : decode cX7_wins 70 = .ok (.iastore, 1) := dk_79 (dk_at dksX7_wins_3 0 rfl rfl)
theorem dX7_wins_71 : decode cX7_wins 71 = .ok (.iinc 1 1, 3) := dk_132 1 1 (dk_at dksX7_wins_3 1 rfl rfl)
theorem dX7_wins_74 : decode cX7_wins 74 = .ok (.goto (-34), 3) := dk_167 255 222 (dk_at dksX7_wins_3 4 rfl rfl)
theorem dX7_wins_77 : decode cX7_wins 77 = .ok (.aload_n 0, 1) := dk_42 (dk_at dksX7_wins_3 7 rfl rfl)
theorem dX7_wins_78 : decode cX7_wins 78 = .ok (.invokevirtual 85, 3) := dk_182 0 85 (dk_at dksX7_wins_3 8 rfl rfl)
theorem dX7_wins_81 : decode cX7_wins 81 = .ok (.bipush 80, 2) := dk_16 80 (dk_at dksX7_wins_3 11 rfl rfl)
theorem dX7_wins_83 : decode cX7_wins 83 = .ok (.if_icmp .ge 26, 3) := dk_162 0 26 (dk_at dksX7_wins_3 13 rfl rfl)
theorem dX7_wins_86 : decode cX7_wins 86 = .ok (.aload_n 0, 1) := dk_42 (dk_at dksX7_wins_3 16 rfl rfl)
theorem dX7_wins_87 : decode cX7_wins 87 = .ok (.getfield 30, 3) := dk_180 0 30 (dk_at dksX7_wins_3 17 rfl rfl)
theorem dX7_wins_90 : decode cX7_wins 90 = .ok (.new 83, 3) := dk_187 0 83 (dk_at dksX7_wins_3 20 rfl rfl)
theorem dX7_wins_93 : decode cX7_wins 93 = .ok (.dup, 1) := dk_89 (dk_at dksX7_wins_3 23 rfl rfl)
theorem dX7_wins_94 : decode cX7_wins 94 = .ok (.aload_n 0, 1) := dk_42 (dk_at dksX7_wins_4 0 rfl rfl)
theorem dX7_wins_95 : decode cX7_wins 95 = .ok (.getfield 126, 3) := dk_180 0 126 (dk_at dksX7_wins_4 1 rfl rfl)
theorem dX7_wins_98 : decode cX7_wins 98 = .ok (.bipush 111, 2) := dk_16 111 (dk_at dksX7_wins_4 4 rfl rfl)
theorem dX7_wins_100 : decode cX7_wins 100 = .ok (.iconst 0, 1) := dk_3 (dk_at dksX7_wins_4 6 rfl rfl)
theorem dX7_wins_101 : decode cX7_wins 101 = .ok (.iconst 0, 1) := dk_3 (dk_at dksX7_wins_4 7 rfl rfl)
theorem dX7_wins_102 : decode cX7_wins 102 = .ok (.invokespecial 201, 3) := dk_183 0 201 (dk_at dksX7_wins_4 8 rfl rfl)
theorem dX7_wins_105 : decode cX7_wins 105 = .ok (.invokevirtual 204, 3) := dk_182 0 204 (dk_at dksX7_wins_4 11 rfl rfl)
theorem dX7_wins_108 : decode cX7_wins 108 = .ok (.istore_n 1, 1) := dk_60 (dk_at dksX7_wins_4 14 rfl rfl)
theorem dX7_wins_109 : decode cX7_wins 109 = .ok (.aload_n 0, 1) := dk_42 (dk_at dksX7_wins_4 15 rfl rfl)
theorem dX7_wins_110 : decode cX7_wins 110 = .ok (.invokevirtual 168, 3) := dk_182 0 168 (dk_at dksX7_wins_4 16 rfl rfl)
theorem dX7_wins_113 : decode cX7_wins 113 = .ok (.return_, 1) := dk_177 (dk_at dksX7_wins_4 19 rfl rfl)
abbrev cX7_isMajority : ByteArray := prog_22_method_10_code
def yX7_isMajority : MethodName := ⟨RX7, "isMajority", "(I)Z"⟩
def dkwX7_isMajority_1 : List UInt8 := [28, 153, 0, 11, 27, 28, 184, 0, 119, 153, 0, 7, 4, 167, 0, 4, 3, 172]
abbrev dktX7_isMajority_1 : List UInt8 := dkwX7_isMajority_1 ++ []
def dkwX7_isMajority_0 : List UInt8 := [42, 42, 182, 0, 85, 182, 0, 117, 61, 27, 42, 42, 182, 0, 85, 182, 0, 115, 184, 0, 119, 153, 0, 19]
abbrev dktX7_isMajority_0 : List UInt8 := dkwX7_isMajority_0 ++ dktX7_isMajority_1
theorem dksX7_isMajority_0 : cX7_isMajority.data.toList.drop 0 = dktX7_isMajority_0 := by decide +kernel
theorem dksX7_isMajority_1 : cX7_isMajority.data.toList.drop 24 = dktX7_isMajority_1 := dk_seg dksX7_isMajority_0 24 rfl rfl
theorem dX7_isMajority_0 : decode cX7_isMajority 0 = .ok (.aload_n 0, 1) := dk_42 (dk_at dksX7_isMajority_0 0 rfl rfl)
theorem dX7_isMajority_1 : decode cX7_isMajority 1 = .ok (.aload_n 0, 1) := dk_42 (dk_at dksX7_isMajority_0 1 rfl rfl)
theorem dX7_isMajority_2 : decode cX7_isMajority 2 = .ok (.invokevirtual 85, 3) := dk_182 0 85 (dk_at dksX7_isMajority_0 2 rfl rfl)
theorem dX7_isMajority_5 : decode cX7_isMajority 5 = .ok (.invokevirtual 117, 3) := dk_182 0 117 (dk_at dksX7_isMajority_0 5 rfl rfl)
theorem dX7_isMajority_8 : decode cX7_isMajority 8 = .ok (.istore_n 2, 1) := dk_61 (dk_at dksX7_isMajority_0 8 rfl rfl)
theorem dX7_isMajority_9 : decode cX7_isMajority 9 = .ok (.iload_n 1, 1) := dk_27 (dk_at dksX7_isMajority_0 9 rfl rfl)
theorem dX7_isMajority_10 : decode cX7_isMajority 10 = .ok (.aload_n 0, 1) := dk_42 (dk_at dksX7_isMajority_0 10 rfl rfl)
theorem dX7_isMajority_11 : decode cX7_isMajority 11 = .ok (.aload_n 0, 1) := dk_42 (dk_at dksX7_isMajority_0 11 rfl rfl)
theorem dX7_isMajority_12 : decode cX7_isMajority 12 = .ok (.invokevirtual 85, 3) := dk_182 0 85 (dk_at dksX7_isMajority_0 12 rfl rfl)
theorem dX7_isMajority_15 : decode cX7_isMajority 15 = .ok (.invokevirtual 115, 3) := dk_182 0 115 (dk_at dksX7_isMajority_0 15 rfl rfl)
theorem dX7_isMajority_18 : decode cX7_isMajority 18 = .ok (.invokestatic 119, 3) := dk_184 0 119 (dk_at dksX7_isMajority_0 18 rfl rfl)
theorem dX7_isMajority_21 : decode cX7_isMajority 21 = .ok (.ifCond .eq 19, 3) := dk_153 0 19 (dk_at dksX7_isMajority_0 21 rfl rfl)
theorem dX7_isMajority_24 : decode cX7_isMajority 24 = .ok (.iload_n 2, 1) := dk_28 (dk_at dksX7_isMajority_1 0 rfl rfl)
theorem dX7_isMajority_25 : decode cX7_isMajority 25 = .ok (.ifCond .eq 11, 3) := dk_153 0 11 (dk_at dksX7_isMajority_1 1 rfl rfl)
theorem dX7_isMajority_28 : decode cX7_isMajority 28 = .ok (.iload_n 1, 1) := dk_27 (dk_at dksX7_isMajority_1 4 rfl rfl)
theorem dX7_isMajority_29 : decode cX7_isMajority 29 = .ok (.iload_n 2, 1) := dk_28 (dk_at dksX7_isMajority_1 5 rfl rfl)
theorem dX7_isMajority_30 : decode cX7_isMajority 30 = .ok (.invokestatic 119, 3) := dk_184 0 119 (dk_at dksX7_isMajority_1 6 rfl rfl)
theorem dX7_isMajority_33 : decode cX7_isMajority 33 = .ok (.ifCond .eq 7, 3) := dk_153 0 7 (dk_at dksX7_isMajority_1 9 rfl rfl)
theorem dX7_isMajority_36 : decode cX7_isMajority 36 = .ok (.iconst 1, 1) := dk_4 (dk_at dksX7_isMajority_1 12 rfl rfl)
theorem dX7_isMajority_37 : decode cX7_isMajority 37 = .ok (.goto 4, 3) := dk_167 0 4 (dk_at dksX7_isMajority_1 13 rfl rfl)
theorem dX7_isMajority_40 : decode cX7_isMajority 40 = .ok (.iconst 0, 1) := dk_3 (dk_at dksX7_isMajority_1 16 rfl rfl)
theorem dX7_isMajority_41 : decode cX7_isMajority 41 = .ok (.ireturn, 1) := dk_172 (dk_at dksX7_isMajority_1 17 rfl rfl)
abbrev cX7_syncs : ByteArray := prog_22_method_31_code
def yX7_syncs : MethodName := ⟨RX7, "syncs", "()I"⟩
def dkwX7_syncs_2 : List UInt8 := [180, 0, 37, 2, 159, 0, 7, 42, 182, 1, 39, 27, 172]
abbrev dktX7_syncs_2 : List UInt8 := dkwX7_syncs_2 ++ []
def dkwX7_syncs_1 : List UInt8 := [160, 0, 14, 42, 182, 1, 59, 42, 182, 1, 62, 167, 0, 24, 42, 180, 0, 19, 16, 102, 160, 0, 15, 42]
abbrev dktX7_syncs_1 : List UInt8 := dkwX7_syncs_1 ++ dktX7_syncs_2
def dkwX7_syncs_0 : List UInt8 := [42, 182, 0, 85, 42, 180, 0, 243, 100, 60, 42, 42, 182, 0, 85, 181, 0, 243, 42, 180, 0, 19, 16, 108]
abbrev dktX7_syncs_0 : List UInt8 := dkwX7_syncs_0 ++ dktX7_syncs_1
theorem dksX7_syncs_0 : cX7_syncs.data.toList.drop 0 = dktX7_syncs_0 := by decide +kernel
theorem dksX7_syncs_1 : cX7_syncs.data.toList.drop 24 = dktX7_syncs_1 := dk_seg dksX7_syncs_0 24 rfl rfl
theorem dksX7_syncs_2 : cX7_syncs.data.toList.drop 48 = dktX7_syncs_2 := dk_seg dksX7_syncs_1 24 rfl rfl
theorem dX7_syncs_0 : decode cX7_syncs 0 = .ok (.aload_n 0, 1) := dk_42 (dk_at dksX7_syncs_0 0 rfl rfl)
theorem dX7_syncs_1 : decode cX7_syncs 1 = .ok (.invokevirtual 85, 3) := dk_182 0 85 (dk_at dksX7_syncs_0 1 rfl rfl)
theorem dX7_syncs_4 : decode cX7_syncs 4 = .ok (.aload_n 0, 1) := dk_42 (dk_at dksX7_syncs_0 4 rfl rfl)
theorem dX7_syncs_5 : decode cX7_syncs 5 = .ok (.getfield 243, 3) := dk_180 0 243 (dk_at dksX7_syncs_0 5 rfl rfl)
theorem dX7_syncs_8 : decode cX7_syncs 8 = .ok (.isub, 1) := dk_100 (dk_at dksX7_syncs_0 8 rfl rfl)
theorem dX7_syncs_9 : decode cX7_syncs 9 = .ok (.istore_n 1, 1) := dk_60 (dk_at dksX7_syncs_0 9 rfl rfl)
theorem dX7_syncs_10 : decode cX7_syncs 10 = .ok (.aload_n 0, 1) := dk_42 (dk_at dksX7_syncs_0 10 rfl rfl)
theorem dX7_syncs_11 : decode cX7_syncs 11 = .ok (.aload_n 0, 1) := dk_42 (dk_at dksX7_syncs_0 11 rfl rfl)
theorem dX7_syncs_12 : decode cX7_syncs 12 = .ok (.invokevirtual 85, 3) := dk_182 0 85 (dk_at dksX7_syncs_0 12 rfl rfl)
theorem dX7_syncs_15 : decode cX7_syncs 15 = .ok (.putfield 243, 3) := dk_181 0 243 (dk_at dksX7_syncs_0 15 rfl rfl)
theorem dX7_syncs_18 : decode cX7_syncs 18 = .ok (.aload_n 0, 1) := dk_42 (dk_at dksX7_syncs_0 18 rfl rfl)
theorem dX7_syncs_19 : decode cX7_syncs 19 = .ok (.getfield 19, 3) := dk_180 0 19 (dk_at dksX7_syncs_0 19 rfl rfl)
theorem dX7_syncs_22 : decode cX7_syncs 22 = .ok (.bipush 108, 2) := dk_16 108 (dk_at dksX7_syncs_0 22 rfl rfl)
theorem dX7_syncs_24 : decode cX7_syncs 24 = .ok (.if_icmp .ne 14, 3) := dk_160 0 14 (dk_at dksX7_syncs_1 0 rfl rfl)
theorem dX7_syncs_27 : decode cX7_syncs 27 = .ok (.aload_n 0, 1) := dk_42 (dk_at dksX7_syncs_1 3 rfl rfl)
theorem dX7_syncs_28 : decode cX7_syncs 28 = .ok (.invokevirtual 315, 3) := dk_182 1 59 (dk_at dksX7_syncs_1 4 rfl rfl)
theorem dX7_syncs_31 : decode cX7_syncs 31 = .ok (.aload_n 0, 1) := dk_42 (dk_at dksX7_syncs_1 7 rfl rfl)
theorem dX7_syncs_32 : decode cX7_syncs 32 = .ok (.invokevirtual 318, 3) := dk_182 1 62 (dk_at dksX7_syncs_1 8 rfl rfl)
theorem dX7_syncs_35 : decode cX7_syncs 35 = .ok (.goto 24, 3) := dk_167 0 24 (dk_at dksX7_syncs_1 11 rfl rfl)
theorem dX7_syncs_38 : decode cX7_syncs 38 = .ok (.aload_n 0, 1) := dk_42 (dk_at dksX7_syncs_1 14 rfl rfl)
theorem dX7_syncs_39 : decode cX7_syncs 39 = .ok (.getfield 19, 3) := dk_180 0 19 (dk_at dksX7_syncs_1 15 rfl rfl)
theorem dX7_syncs_42 : decode cX7_syncs 42 = .ok (.bipush 102, 2) := dk_16 102 (dk_at dksX7_syncs_1 18 rfl rfl)
theorem dX7_syncs_44 : decode cX7_syncs 44 = .ok (.if_icmp .ne 15, 3) := dk_160 0 15 (dk_at dksX7_syncs_1 20 rfl rfl)
theorem dX7_syncs_47 : decode cX7_syncs 47 = .ok (.aload_n 0, 1) := dk_42 (dk_at dksX7_syncs_1 23 rfl rfl)
theorem dX7_syncs_48 : decode cX7_syncs 48 = .ok (.getfield 37, 3) := dk_180 0 37 (dk_at dksX7_syncs_2 0 rfl rfl)
theorem dX7_syncs_51 : decode cX7_syncs 51 = .ok (.iconst (-1), 1) := dk_2 (dk_at dksX7_syncs_2 3 rfl rfl)
theorem dX7_syncs_52 : decode cX7_syncs 52 = .ok (.if_icmp .eq 7, 3) := dk_159 0 7 (dk_at dksX7_syncs_2 4 rfl rfl)
theorem dX7_syncs_55 : decode cX7_syncs 55 = .ok (.aload_n 0, 1) := dk_42 (dk_at dksX7_syncs_2 7 rfl rfl)
theorem dX7_syncs_56 : decode cX7_syncs 56 = .ok (.invokevirtual 295, 3) := dk_182 1 39 (dk_at dksX7_syncs_2 8 rfl rfl)
theorem dX7_syncs_59 : decode cX7_syncs 59 = .ok (.iload_n 1, 1) := dk_27 (dk_at dksX7_syncs_2 11 rfl rfl)
theorem dX7_syncs_60 : decode cX7_syncs 60 = .ok (.ireturn, 1) := dk_172 (dk_at dksX7_syncs_2 12 rfl rfl)
abbrev cX7_finds : ByteArray := prog_22_method_19_code
def yX7_finds : MethodName := ⟨RX7, "finds", "()V"⟩
def dkwX7_finds_10 : List UInt8 := [42, 182, 0, 133, 177]
abbrev dktX7_finds_10 : List UInt8 := dkwX7_finds_10 ++ []
def dkwX7_finds_9 : List UInt8 := [42, 29, 182, 0, 91, 180, 0, 106, 42, 180, 0, 53, 122, 4, 126, 154, 0, 13, 42, 16, 102, 181, 0, 19]
abbrev dktX7_finds_9 : List UInt8 := dkwX7_finds_9 ++ dktX7_finds_10
def dkwX7_finds_8 : List UInt8 := [180, 0, 220, 182, 0, 99, 62, 29, 158, 0, 44, 42, 29, 182, 0, 91, 180, 0, 96, 16, 110, 160, 0, 31]
abbrev dktX7_finds_8 : List UInt8 := dkwX7_finds_8 ++ dktX7_finds_9
def dkwX7_finds_7 : List UInt8 := [180, 0, 30, 187, 0, 83, 89, 42, 180, 0, 126, 16, 110, 28, 3, 183, 0, 201, 182, 0, 204, 62, 42, 42]
abbrev dktX7_finds_7 : List UInt8 := dkwX7_finds_7 ++ dktX7_finds_8
def dkwX7_finds_6 : List UInt8 := [182, 0, 117, 61, 28, 153, 0, 41, 42, 42, 182, 0, 85, 182, 0, 99, 42, 180, 0, 220, 163, 0, 26, 42]
abbrev dktX7_finds_6 : List UInt8 := dkwX7_finds_6 ++ dktX7_finds_7
def dkwX7_finds_5 : List UInt8 := [167, 255, 151, 27, 42, 180, 0, 220, 160, 0, 4, 177, 42, 27, 182, 0, 246, 42, 42, 182, 0, 85]
abbrev dktX7_finds_5 : List UInt8 := dkwX7_finds_5 ++ dktX7_finds_6
def dkwX7_finds_4 : List UInt8 := [180, 0, 126, 160, 0, 15, 42, 29, 182, 0, 197, 153, 0, 7, 28, 167, 0, 4, 27, 60, 132, 2, 1]
abbrev dktX7_finds_4 : List UInt8 := dkwX7_finds_4 ++ dktX7_finds_5
def dkwX7_finds_3 : List UInt8 := [120, 167, 0, 4, 3, 128, 62, 132, 4, 1, 167, 255, 216, 42, 28, 182, 0, 91, 180, 0, 95, 42]
abbrev dktX7_finds_3 : List UInt8 := dkwX7_finds_3 ++ dktX7_finds_4
def dkwX7_finds_2 : List UInt8 := [29, 21, 4, 42, 180, 0, 53, 159, 0, 21, 42, 180, 0, 44, 21, 4, 46, 28, 161, 0, 10, 4, 21, 4]
abbrev dktX7_finds_2 : List UInt8 := dkwX7_finds_2 ++ dktX7_finds_3
def dkwX7_finds_1 : List UInt8 := [28, 161, 0, 12, 4, 42, 180, 0, 53, 120, 167, 0, 4, 3, 62, 3, 54, 4, 21, 4, 8, 162, 0, 40]
abbrev dktX7_finds_1 : List UInt8 := dkwX7_finds_1 ++ dktX7_finds_2
def dkwX7_finds_0 : List UInt8 := [42, 180, 0, 220, 60, 42, 180, 0, 220, 4, 96, 61, 28, 42, 182, 0, 85, 163, 0, 103, 42, 180, 0, 243]
abbrev dktX7_finds_0 : List UInt8 := dkwX7_finds_0 ++ dktX7_finds_1
theorem dksX7_finds_0 : cX7_finds.data.toList.drop 0 = dktX7_finds_0 := by decide +kernel
theorem dksX7_finds_1 : cX7_finds.data.toList.drop 24 = dktX7_finds_1 := dk_seg dksX7_finds_0 24 rfl rfl
theorem dksX7_finds_2 : cX7_finds.data.toList.drop 48 = dktX7_finds_2 := dk_seg dksX7_finds_1 24 rfl rfl
theorem dksX7_finds_3 : cX7_finds.data.toList.drop 72 = dktX7_finds_3 := dk_seg dksX7_finds_2 24 rfl rfl
theorem dksX7_finds_4 : cX7_finds.data.toList.drop 94 = dktX7_finds_4 := dk_seg dksX7_finds_3 22 rfl rfl
theorem dksX7_finds_5 : cX7_finds.data.toList.drop 117 = dktX7_finds_5 := dk_seg dksX7_finds_4 23 rfl rfl
theorem dksX7_finds_6 : cX7_finds.data.toList.drop 139 = dktX7_finds_6 := dk_seg dksX7_finds_5 22 rfl rfl
theorem dksX7_finds_7 : cX7_finds.data.toList.drop 163 = dktX7_finds_7 := dk_seg dksX7_finds_6 24 rfl rfl
theorem dksX7_finds_8 : cX7_finds.data.toList.drop 187 = dktX7_finds_8 := dk_seg dksX7_finds_7 24 rfl rfl
theorem dksX7_finds_9 : cX7_finds.data.toList.drop 211 = dktX7_finds_9 := dk_seg dksX7_finds_8 24 rfl rfl
theorem dksX7_finds_10 : cX7_finds.data.toList.drop 235 = dktX7_finds_10 := dk_seg dksX7_finds_9 24 rfl rfl
theorem dX7_finds_0 : decode cX7_finds 0 = .ok (.aload_n 0, 1) := dk_42 (dk_at dksX7_finds_0 0 rfl rfl)
theorem dX7_finds_1 : decode cX7_finds 1 = .ok (.getfield 220, 3) := dk_180 0 220 (dk_at dksX7_finds_0 1 rfl rfl)
theorem dX7_finds_4 : decode cX7_finds 4 = .ok (.istore_n 1, 1) := dk_60 (dk_at dksX7_finds_0 4 rfl rfl)
theorem dX7_finds_5 : decode cX7_finds 5 = .ok (.aload_n 0, 1) := dk_42 (dk_at dksX7_finds_0 5 rfl rfl)
theorem dX7_finds_6 : decode cX7_finds 6 = .ok (.getfield 220, 3) := dk_180 0 220 (dk_at dksX7_finds_0 6 rfl rfl)
theorem dX7_finds_9 : decode cX7_finds 9 = .ok (.iconst 1, 1) := dk_4 (dk_at dksX7_finds_0 9 rfl rfl)
theorem dX7_finds_10 : decode cX7_finds 10 = .ok (.iadd, 1) := dk_96 (dk_at dksX7_finds_0 10 rfl rfl)
theorem dX7_finds_11 : decode cX7_finds 11 = .ok (.istore_n 2, 1) := dk_61 (dk_at dksX7_finds_0 11 rfl rfl)
theorem dX7_finds_12 : decode cX7_finds 12 = .ok (.iload_n 2, 1) := dk_28 (dk_at dksX7_finds_0 12 rfl rfl)
theorem dX7_finds_13 : decode cX7_finds 13 = .ok (.aload_n 0, 1) := dk_42 (dk_at dksX7_finds_0 13 rfl rfl)
theorem dX7_finds_14 : decode cX7_finds 14 = .ok (.invokevirtual 85, 3) := dk_182 0 85 (dk_at dksX7_finds_0 14 rfl rfl)
theorem dX7_finds_17 : decode cX7_finds 17 = .ok (.if_icmp .gt 103, 3) := dk_163 0 103 (dk_at dksX7_finds_0 17 rfl rfl)
theorem dX7_finds_20 : decode cX7_finds 20 = .ok (.aload_n 0, 1) := dk_42 (dk_at dksX7_finds_0 20 rfl rfl)
theorem dX7_finds_21 : decode cX7_finds 21 = .ok (.getfield 243, 3) := dk_180 0 243 (dk_at dksX7_finds_0 21 rfl rfl)
theorem dX7_finds_24 : decode cX7_finds 24 = .ok (.iload_n 2, 1) := dk_28 (dk_at dksX7_finds_1 0 rfl rfl)
theorem dX7_finds_25 : decode cX7_finds 25 = .ok (.if_icmp .lt 12, 3) := dk_161 0 12 (dk_at dksX7_finds_1 1 rfl rfl)
theorem dX7_finds_28 : decode cX7_finds 28 = .ok (.iconst 1, 1) := dk_4 (dk_at dksX7_finds_1 4 rfl rfl)
theorem dX7_finds_29 : decode cX7_finds 29 = .ok (.aload_n 0, 1) := dk_42 (dk_at dksX7_finds_1 5 rfl rfl)
theorem dX7_finds_30 : decode cX7_finds 30 = .ok (.getfield 53, 3) := dk_180 0 53 (dk_at dksX7_finds_1 6 rfl rfl)
theorem dX7_finds_33 : decode cX7_finds 33 = .ok (.ishl, 1) := dk_120 (dk_at dksX7_finds_1 9 rfl rfl)
theorem dX7_finds_34 : decode cX7_finds 34 = .ok (.goto 4, 3) := dk_167 0 4 (dk_at dksX7_finds_1 10 rfl rfl)
theorem dX7_finds_37 : decode cX7_finds 37 = .ok (.iconst 0, 1) := dk_3 (dk_at dksX7_finds_1 13 rfl rfl)
theorem dX7_finds_38 : decode cX7_finds 38 = .ok (.istore_n 3, 1) := dk_62 (dk_at dksX7_finds_1 14 rfl rfl)
theorem dX7_finds_39 : decode cX7_finds 39 = .ok (.iconst 0, 1) := dk_3 (dk_at dksX7_finds_1 15 rfl rfl)
theorem dX7_finds_40 : decode cX7_finds 40 = .ok (.istore 4, 2) := dk_54 4 (dk_at dksX7_finds_1 16 rfl rfl)
theorem dX7_finds_42 : decode cX7_finds 42 = .ok (.iload 4, 2) := dk_21 4 (dk_at dksX7_finds_1 18 rfl rfl)
theorem dX7_finds_44 : decode cX7_finds 44 = .ok (.iconst 5, 1) := dk_8 (dk_at dksX7_finds_1 20 rfl rfl)
theorem dX7_finds_45 : decode cX7_finds 45 = .ok (.if_icmp .ge 40, 3) := dk_162 0 40 (dk_at dksX7_finds_1 21 rfl rfl)
theorem dX7_finds_48 : decode cX7_finds 48 = .ok (.iload_n 3, 1) := dk_29 (dk_at dksX7_finds_2 0 rfl rfl)
theorem dX7_finds_49 : decode cX7_finds 49 = .ok (.iload 4, 2) := dk_21 4 (dk_at dksX7_finds_2 1 rfl rfl)
theorem dX7_finds_51 : decode cX7_finds 51 = .ok (.aload_n 0, 1) := dk_42 (dk_at dksX7_finds_2 3 rfl rfl)
theorem dX7_finds_52 : decode cX7_finds 52 = .ok (.getfield 53, 3) := dk_180 0 53 (dk_at dksX7_finds_2 4 rfl rfl)
theorem dX7_finds_55 : decode cX7_finds 55 = .ok (.if_icmp .eq 21, 3) := dk_159 0 21 (dk_at dksX7_finds_2 7 rfl rfl)
theorem dX7_finds_58 : decode cX7_finds 58 = .ok (.aload_n 0, 1) := dk_42 (dk_at dksX7_finds_2 10 rfl rfl)
theorem dX7_finds_59 : decode cX7_finds 59 = .ok (.getfield 44, 3) := dk_180 0 44 (dk_at dksX7_finds_2 11 rfl rfl)
theorem dX7_finds_62 : decode cX7_finds 62 = .ok (.iload 4, 2) := dk_21 4 (dk_at dksX7_finds_2 14 rfl rfl)
theorem dX7_finds_64 : decode cX7_finds 64 = .ok (.iaload, 1) := dk_46 (dk_at dksX7_finds_2 16 rfl rfl)
theorem dX7_finds_65 : decode cX7_finds 65 = .ok (.iload_n 2, 1) := dk_28 (dk_at dksX7_finds_2 17 rfl rfl)
theorem dX7_finds_66 : decode cX7_finds 66 = .ok (.if_icmp .lt 10, 3) := dk_161 0 10 (dk_at dksX7_finds_2 18 rfl rfl)
theorem dX7_finds_69 : decode cX7_finds 69 = .ok (.iconst 1, 1) := dk_4 (dk_at dksX7_finds_2 21 rfl rfl)
theorem dX7_finds_70 : decode cX7_finds 70 = .ok (.iload 4, 2) := dk_21 4 (dk_at dksX7_finds_2 22 rfl rfl)
theorem dX7_finds_72 : decode cX7_finds 72 = .ok (.ishl, 1) := dk_120 (dk_at dksX7_finds_3 0 rfl rfl)
theorem dX7_finds_73 : decode cX7_finds 73 = .ok (.goto 4, 3) := dk_167 0 4 (dk_at dksX7_finds_3 1 rfl rfl)
theorem dX7_finds_76 : decode cX7_finds 76 = .ok (.iconst 0, 1) := dk_3 (dk_at dksX7_finds_3 4 rfl rfl)
theorem dX7_finds_77 : decode cX7_finds 77 = .ok (.ior, 1) := dk_128 (dk_at dksX7_finds_3 5 rfl rfl)
theorem dX7_finds_78 : decode cX7_finds 78 = .ok (.istore_n 3, 1) := dk_62 (dk_at dksX7_finds_3 6 rfl rfl)
theorem dX7_finds_79 : decode cX7_finds 79 = .ok (.iinc 4 1, 3) := dk_132 4 1 (dk_at dksX7_finds_3 7 rfl rfl)
theorem dX7_finds_82 : decode cX7_finds 82 = .ok (.goto (-40), 3) := dk_167 255 216 (dk_at dksX7_finds_3 10 rfl rfl)
theorem dX7_finds_85 : decode cX7_finds 85 = .ok (.aload_n 0, 1) := dk_42 (dk_at dksX7_finds_3 13 rfl rfl)
theorem dX7_finds_86 : decode cX7_finds 86 = .ok (.iload_n 2, 1) := dk_28 (dk_at dksX7_finds_3 14 rfl rfl)
theorem dX7_finds_87 : decode cX7_finds 87 = .ok (.invokevirtual 91, 3) := dk_182 0 91 (dk_at dksX7_finds_3 15 rfl rfl)
theorem dX7_finds_90 : decode cX7_finds 90 = .ok (.getfield 95, 3) := dk_180 0 95 (dk_at dksX7_finds_3 18 rfl rfl)
theorem dX7_finds_93 : decode cX7_finds 93 = .ok (.aload_n 0, 1) := dk_42 (dk_at dksX7_finds_3 21 rfl rfl)
theorem dX7_finds_94 : decode cX7_finds 94 = .ok (.getfield 126, 3) := dk_180 0 126 (dk_at dksX7_finds_4 0 rfl rfl)
theorem dX7_finds_97 : decode cX7_finds 97 = .ok (.if_icmp .ne 15, 3) := dk_160 0 15 (dk_at dksX7_finds_4 3 rfl rfl)
theorem dX7_finds_100 : decode cX7_finds 100 = .ok (.aload_n 0, 1) := dk_42 (dk_at dksX7_finds_4 6 rfl rfl)
theorem dX7_finds_101 : decode cX7_finds 101 = .ok (.iload_n 3, 1) := dk_29 (dk_at dksX7_finds_4 7 rfl rfl)
theorem dX7_finds_102 : decode cX7_finds 102 = .ok (.invokevirtual 197, 3) := dk_182 0 197 (dk_at dksX7_finds_4 8 rfl rfl)
theorem dX7_finds_105 : decode cX7_finds 105 = .ok (.ifCond .eq 7, 3) := dk_153 0 7 (dk_at dksX7_finds_4 11 rfl rfl)
theorem dX7_finds_108 : decode cX7_finds 108 = .ok (.iload_n 2, 1) := dk_28 (dk_at dksX7_finds_4 14 rfl rfl)
theorem dX7_finds_109 : decode cX7_finds 109 = .ok (.goto 4, 3) := dk_167 0 4 (dk_at dksX7_finds_4 15 rfl rfl)
theorem dX7_finds_112 : decode cX7_finds 112 = .ok (.iload_n 1, 1) := dk_27 (dk_at dksX7_finds_4 18 rfl rfl)
theorem dX7_finds_113 : decode cX7_finds 113 = .ok (.istore_n 1, 1) := dk_60 (dk_at dksX7_finds_4 19 rfl rfl)
theorem dX7_finds_114 : decode cX7_finds 114 = .ok (.iinc 2 1, 3) := dk_132 2 1 (dk_at dksX7_finds_4 20 rfl rfl)
theorem dX7_finds_117 : decode cX7_finds 117 = .ok (.goto (-105), 3) := dk_167 255 151 (dk_at dksX7_finds_5 0 rfl rfl)
theorem dX7_finds_120 : decode cX7_finds 120 = .ok (.iload_n 1, 1) := dk_27 (dk_at dksX7_finds_5 3 rfl rfl)
theorem dX7_finds_121 : decode cX7_finds 121 = .ok (.aload_n 0, 1) := dk_42 (dk_at dksX7_finds_5 4 rfl rfl)
theorem dX7_finds_122 : decode cX7_finds 122 = .ok (.getfield 220, 3) := dk_180 0 220 (dk_at dksX7_finds_5 5 rfl rfl)
theorem dX7_finds_125 : decode cX7_finds 125 = .ok (.if_icmp .ne 4, 3) := dk_160 0 4 (dk_at dksX7_finds_5 8 rfl rfl)
theorem dX7_finds_128 : decode cX7_finds 128 = .ok (.return_, 1) := dk_177 (dk_at dksX7_finds_5 11 rfl rfl)
theorem dX7_finds_129 : decode cX7_finds 129 = .ok (.aload_n 0, 1) := dk_42 (dk_at dksX7_finds_5 12 rfl rfl)
theorem dX7_finds_130 : decode cX7_finds 130 = .ok (.iload_n 1, 1) := dk_27 (dk_at dksX7_finds_5 13 rfl rfl)
theorem dX7_finds_131 : decode cX7_finds 131 = .ok (.invokevirtual 246, 3) := dk_182 0 246 (dk_at dksX7_finds_5 14 rfl rfl)
theorem dX7_finds_134 : decode cX7_finds 134 = .ok (.aload_n 0, 1) := dk_42 (dk_at dksX7_finds_5 17 rfl rfl)
theorem dX7_finds_135 : decode cX7_finds 135 = .ok (.aload_n 0, 1) := dk_42 (dk_at dksX7_finds_5 18 rfl rfl)
theorem dX7_finds_136 : decode cX7_finds 136 = .ok (.invokevirtual 85, 3) := dk_182 0 85 (dk_at dksX7_finds_5 19 rfl rfl)
theorem dX7_finds_139 : decode cX7_finds 139 = .ok (.invokevirtual 117, 3) := dk_182 0 117 (dk_at dksX7_finds_6 0 rfl rfl)
theorem dX7_finds_142 : decode cX7_finds 142 = .ok (.istore_n 2, 1) := dk_61 (dk_at dksX7_finds_6 3 rfl rfl)
theorem dX7_finds_143 : decode cX7_finds 143 = .ok (.iload_n 2, 1) := dk_28 (dk_at dksX7_finds_6 4 rfl rfl)
theorem dX7_finds_144 : decode cX7_finds 144 = .ok (.ifCond .eq 41, 3) := dk_153 0 41 (dk_at dksX7_finds_6 5 rfl rfl)
theorem dX7_finds_147 : decode cX7_finds 147 = .ok (.aload_n 0, 1) := dk_42 (dk_at dksX7_finds_6 8 rfl rfl)
theorem dX7_finds_148 : decode cX7_finds 148 = .ok (.aload_n 0, 1) := dk_42 (dk_at dksX7_finds_6 9 rfl rfl)
theorem dX7_finds_149 : decode cX7_finds 149 = .ok (.invokevirtual 85, 3) := dk_182 0 85 (dk_at dksX7_finds_6 10 rfl rfl)
theorem dX7_finds_152 : decode cX7_finds 152 = .ok (.invokevirtual 99, 3) := dk_182 0 99 (dk_at dksX7_finds_6 13 rfl rfl)
theorem dX7_finds_155 : decode cX7_finds 155 = .ok (.aload_n 0, 1) := dk_42 (dk_at dksX7_finds_6 16 rfl rfl)
theorem dX7_finds_156 : decode cX7_finds 156 = .ok (.getfield 220, 3) := dk_180 0 220 (dk_at dksX7_finds_6 17 rfl rfl)
theorem dX7_finds_159 : decode cX7_finds 159 = .ok (.if_icmp .gt 26, 3) := dk_163 0 26 (dk_at dksX7_finds_6 20 rfl rfl)
theorem dX7_finds_162 : decode cX7_finds 162 = .ok (.aload_n 0, 1) := dk_42 (dk_at dksX7_finds_6 23 rfl rfl)
theorem dX7_finds_163 : decode cX7_finds 163 = .ok (.getfield 30, 3) := dk_180 0 30 (dk_at dksX7_finds_7 0 rfl rfl)
theorem dX7_finds_166 : decode cX7_finds 166 = .ok (.new 83, 3) := dk_187 0 83 (dk_at dksX7_finds_7 3 rfl rfl)
theorem dX7_finds_169 : decode cX7_finds 169 = .ok (.dup, 1) := dk_89 (dk_at dksX7_finds_7 6 rfl rfl)
theorem dX7_finds_170 : decode cX7_finds 170 = .ok (.aload_n 0, 1) := dk_42 (dk_at dksX7_finds_7 7 rfl rfl)
theorem dX7_finds_171 : decode cX7_finds 171 = .ok (.getfield 126, 3) := dk_180 0 126 (dk_at dksX7_finds_7 8 rfl rfl)
theorem dX7_finds_174 : decode cX7_finds 174 = .ok (.bipush 110, 2) := dk_16 110 (dk_at dksX7_finds_7 11 rfl rfl)
theorem dX7_finds_176 : decode cX7_finds 176 = .ok (.iload_n 2, 1) := dk_28 (dk_at dksX7_finds_7 13 rfl rfl)
theorem dX7_finds_177 : decode cX7_finds 177 = .ok (.iconst 0, 1) := dk_3 (dk_at dksX7_finds_7 14 rfl rfl)
theorem dX7_finds_178 : decode cX7_finds 178 = .ok (.invokespecial 201, 3) := dk_183 0 201 (dk_at dksX7_finds_7 15 rfl rfl)
theorem dX7_finds_181 : decode cX7_finds 181 = .ok (.invokevirtual 204, 3) := dk_182 0 204 (dk_at dksX7_finds_7 18 rfl rfl)
theorem dX7_finds_184 : decode cX7_finds 184 = .ok (.istore_n 3, 1) := dk_62 (dk_at dksX7_finds_7 21 rfl rfl)
theorem dX7_finds_185 : decode cX7_finds 185 = .ok (.aload_n 0, 1) := dk_42 (dk_at dksX7_finds_7 22 rfl rfl)
theorem dX7_finds_186 : decode cX7_finds 186 = .ok (.aload_n 0, 1) := dk_42 (dk_at dksX7_finds_7 23 rfl rfl)
theorem dX7_finds_187 : decode cX7_finds 187 = .ok (.getfield 220, 3) := dk_180 0 220 (dk_at dksX7_finds_8 0 rfl rfl)
theorem dX7_finds_190 : decode cX7_finds 190 = .ok (.invokevirtual 99, 3) := dk_182 0 99 (dk_at dksX7_finds_8 3 rfl rfl)
theorem dX7_finds_193 : decode cX7_finds 193 = .ok (.istore_n 3, 1) := dk_62 (dk_at dksX7_finds_8 6 rfl rfl)
theorem dX7_finds_194 : decode cX7_finds 194 = .ok (.iload_n 3, 1) := dk_29 (dk_at dksX7_finds_8 7 rfl rfl)
theorem dX7_finds_195 : decode cX7_finds 195 = .ok (.ifCond .le 44, 3) := dk_158 0 44 (dk_at dksX7_finds_8 8 rfl rfl)
theorem dX7_finds_198 : decode cX7_finds 198 = .ok (.aload_n 0, 1) := dk_42 (dk_at dksX7_finds_8 11 rfl rfl)
theorem dX7_finds_199 : decode cX7_finds 199 = .ok (.iload_n 3, 1) := dk_29 (dk_at dksX7_finds_8 12 rfl rfl)
theorem dX7_finds_200 : decode cX7_finds 200 = .ok (.invokevirtual 91, 3) := dk_182 0 91 (dk_at dksX7_finds_8 13 rfl rfl)
theorem dX7_finds_203 : decode cX7_finds 203 = .ok (.getfield 96, 3) := dk_180 0 96 (dk_at dksX7_finds_8 16 rfl rfl)
theorem dX7_finds_206 : decode cX7_finds 206 = .ok (.bipush 110, 2) := dk_16 110 (dk_at dksX7_finds_8 19 rfl rfl)
theorem dX7_finds_208 : decode cX7_finds 208 = .ok (.if_icmp .ne 31, 3) := dk_160 0 31 (dk_at dksX7_finds_8 21 rfl rfl)
theorem dX7_finds_211 : decode cX7_finds 211 = .ok (.aload_n 0, 1) := dk_42 (dk_at dksX7_finds_9 0 rfl rfl)
theorem dX7_finds_212 : decode cX7_finds 212 = .ok (.iload_n 3, 1) := dk_29 (dk_at dksX7_finds_9 1 rfl rfl)
theorem dX7_finds_213 : decode cX7_finds 213 = .ok (.invokevirtual 91, 3) := dk_182 0 91 (dk_at dksX7_finds_9 2 rfl rfl)
theorem dX7_finds_216 : decode cX7_finds 216 = .ok (.getfield 106, 3) := dk_180 0 106 (dk_at dksX7_finds_9 5 rfl rfl)
theorem dX7_finds_219 : decode cX7_finds 219 = .ok (.aload_n 0, 1) := dk_42 (dk_at dksX7_finds_9 8 rfl rfl)
theorem dX7_finds_220 : decode cX7_finds 220 = .ok (.getfield 53, 3) := dk_180 0 53 (dk_at dksX7_finds_9 9 rfl rfl)
theorem dX7_finds_223 : decode cX7_finds 223 = .ok (.ishr, 1) := dk_122 (dk_at dksX7_finds_9 12 rfl rfl)
theorem dX7_finds_224 : decode cX7_finds 224 = .ok (.iconst 1, 1) := dk_4 (dk_at dksX7_finds_9 13 rfl rfl)
theorem dX7_finds_225 : decode cX7_finds 225 = .ok (.iand, 1) := dk_126 (dk_at dksX7_finds_9 14 rfl rfl)
theorem dX7_finds_226 : decode cX7_finds 226 = .ok (.ifCond .ne 13, 3) := dk_154 0 13 (dk_at dksX7_finds_9 15 rfl rfl)
theorem dX7_finds_229 : decode cX7_finds 229 = .ok (.aload_n 0, 1) := dk_42 (dk_at dksX7_finds_9 18 rfl rfl)
theorem dX7_finds_230 : decode cX7_finds 230 = .ok (.bipush 102, 2) := dk_16 102 (dk_at dksX7_finds_9 19 rfl rfl)
theorem dX7_finds_232 : decode cX7_finds 232 = .ok (.putfield 19, 3) := dk_181 0 19 (dk_at dksX7_finds_9 21 rfl rfl)
theorem dX7_finds_235 : decode cX7_finds 235 = .ok (.aload_n 0, 1) := dk_42 (dk_at dksX7_finds_10 0 rfl rfl)
theorem dX7_finds_236 : decode cX7_finds 236 = .ok (.invokevirtual 133, 3) := dk_182 0 133 (dk_at dksX7_finds_10 1 rfl rfl)
theorem dX7_finds_239 : decode cX7_finds 239 = .ok (.return_, 1) := dk_177 (dk_at dksX7_finds_10 4 rfl rfl)
abbrev cX7_commits : ByteArray := prog_22_method_18_code
def yX7_commits : MethodName := ⟨RX7, "commits", "(I)V"⟩
def dkwX7_commits_2 : List UInt8 := [27, 184, 0, 237, 181, 0, 220, 177]
abbrev dktX7_commits_2 : List UInt8 := dkwX7_commits_2 ++ []
def dkwX7_commits_1 : List UInt8 := [42, 180, 0, 3, 28, 42, 28, 182, 0, 91, 182, 0, 233, 132, 2, 1, 167, 255, 223, 42, 42, 180, 0, 220]
abbrev dktX7_commits_1 : List UInt8 := dkwX7_commits_1 ++ dktX7_commits_2
def dkwX7_commits_0 : List UInt8 := [42, 180, 0, 220, 4, 96, 61, 28, 27, 163, 0, 34, 42, 180, 0, 68, 42, 28, 182, 0, 91, 182, 0, 229]
abbrev dktX7_commits_0 : List UInt8 := dkwX7_commits_0 ++ dktX7_commits_1
theorem dksX7_commits_0 : cX7_commits.data.toList.drop 0 = dktX7_commits_0 := by decide +kernel
theorem dksX7_commits_1 : cX7_commits.data.toList.drop 24 = dktX7_commits_1 := dk_seg dksX7_commits_0 24 rfl rfl
theorem dksX7_commits_2 : cX7_commits.data.toList.drop 48 = dktX7_commits_2 := dk_seg dksX7_commits_1 24 rfl rfl
theorem dX7_commits_0 : decode cX7_commits 0 = .ok (.aload_n 0, 1) := dk_42 (dk_at dksX7_commits_0 0 rfl rfl)
theorem dX7_commits_1 : decode cX7_commits 1 = .ok (.getfield 220, 3) := dk_180 0 220 (dk_at dksX7_commits_0 1 rfl rfl)
theorem dX7_commits_4 : decode cX7_commits 4 = .ok (.iconst 1, 1) := dk_4 (dk_at dksX7_commits_0 4 rfl rfl)
theorem dX7_commits_5 : decode cX7_commits 5 = .ok (.iadd, 1) := dk_96 (dk_at dksX7_commits_0 5 rfl rfl)
theorem dX7_commits_6 : decode cX7_commits 6 = .ok (.istore_n 2, 1) := dk_61 (dk_at dksX7_commits_0 6 rfl rfl)
theorem dX7_commits_7 : decode cX7_commits 7 = .ok (.iload_n 2, 1) := dk_28 (dk_at dksX7_commits_0 7 rfl rfl)
theorem dX7_commits_8 : decode cX7_commits 8 = .ok (.iload_n 1, 1) := dk_27 (dk_at dksX7_commits_0 8 rfl rfl)
theorem dX7_commits_9 : decode cX7_commits 9 = .ok (.if_icmp .gt 34, 3) := dk_163 0 34 (dk_at dksX7_commits_0 9 rfl rfl)
theorem dX7_commits_12 : decode cX7_commits 12 = .ok (.aload_n 0, 1) := dk_42 (dk_at dksX7_commits_0 12 rfl rfl)
theorem dX7_commits_13 : decode cX7_commits 13 = .ok (.getfield 68, 3) := dk_180 0 68 (dk_at dksX7_commits_0 13 rfl rfl)
theorem dX7_commits_16 : decode cX7_commits 16 = .ok (.aload_n 0, 1) := dk_42 (dk_at dksX7_commits_0 16 rfl rfl)
theorem dX7_commits_17 : decode cX7_commits 17 = .ok (.iload_n 2, 1) := dk_28 (dk_at dksX7_commits_0 17 rfl rfl)
theorem dX7_commits_18 : decode cX7_commits 18 = .ok (.invokevirtual 91, 3) := dk_182 0 91 (dk_at dksX7_commits_0 18 rfl rfl)
theorem dX7_commits_21 : decode cX7_commits 21 = .ok (.invokevirtual 229, 3) := dk_182 0 229 (dk_at dksX7_commits_0 21 rfl rfl)
theorem dX7_commits_24 : decode cX7_commits 24 = .ok (.aload_n 0, 1) := dk_42 (dk_at dksX7_commits_1 0 rfl rfl)
theorem dX7_commits_25 : decode cX7_commits 25 = .ok (.getfield 3, 3) := dk_180 0 3 (dk_at dksX7_commits_1 1 rfl rfl)
theorem dX7_commits_28 : decode cX7_commits 28 = .ok (.iload_n 2, 1) := dk_28 (dk_at dksX7_commits_1 4 rfl rfl)
theorem dX7_commits_29 : decode cX7_commits 29 = .ok (.aload_n 0, 1) := dk_42 (dk_at dksX7_commits_1 5 rfl rfl)
theorem dX7_commits_30 : decode cX7_commits 30 = .ok (.iload_n 2, 1) := dk_28 (dk_at dksX7_commits_1 6 rfl rfl)
theorem dX7_commits_31 : decode cX7_commits 31 = .ok (.invokevirtual 91, 3) := dk_182 0 91 (dk_at dksX7_commits_1 7 rfl rfl)
theorem dX7_commits_34 : decode cX7_commits 34 = .ok (.invokevirtual 233, 3) := dk_182 0 233 (dk_at dksX7_commits_1 10 rfl rfl)
theorem dX7_commits_37 : decode cX7_commits 37 = .ok (.iinc 2 1, 3) := dk_132 2 1 (dk_at dksX7_commits_1 13 rfl rfl)
theorem dX7_commits_40 : decode cX7_commits 40 = .ok (.goto (-33), 3) := dk_167 255 223 (dk_at dksX7_commits_1 16 rfl rfl)
theorem dX7_commits_43 : decode cX7_commits 43 = .ok (.aload_n 0, 1) := dk_42 (dk_at dksX7_commits_1 19 rfl rfl)
theorem dX7_commits_44 : decode cX7_commits 44 = .ok (.aload_n 0, 1) := dk_42 (dk_at dksX7_commits_1 20 rfl rfl)
theorem dX7_commits_45 : decode cX7_commits 45 = .ok (.getfield 220, 3) := dk_180 0 220 (dk_at dksX7_commits_1 21 rfl rfl)
theorem dX7_commits_48 : decode cX7_commits 48 = .ok (.iload_n 1, 1) := dk_27 (dk_at dksX7_commits_2 0 rfl rfl)
theorem dX7_commits_49 : decode cX7_commits 49 = .ok (.invokestatic 237, 3) := dk_184 0 237 (dk_at dksX7_commits_2 1 rfl rfl)
theorem dX7_commits_52 : decode cX7_commits 52 = .ok (.putfield 220, 3) := dk_181 0 220 (dk_at dksX7_commits_2 4 rfl rfl)
theorem dX7_commits_55 : decode cX7_commits 55 = .ok (.return_, 1) := dk_177 (dk_at dksX7_commits_2 7 rfl rfl)
abbrev cX7_losesReads : ByteArray := prog_22_method_13_code
def yX7_losesReads : MethodName := ⟨RX7, "losesReads", "()V"⟩
def dkwX7_losesReads_2 : List UInt8 := [16, 119, 160, 0, 9, 44, 16, 108, 181, 0, 157, 167, 255, 211, 177]
abbrev dktX7_losesReads_2 : List UInt8 := dkwX7_losesReads_2 ++ []
def dkwX7_losesReads_1 : List UInt8 := [185, 0, 149, 1, 0, 192, 0, 152, 77, 44, 180, 0, 154, 42, 180, 0, 53, 160, 0, 18, 44, 180, 0, 157]
abbrev dktX7_losesReads_1 : List UInt8 := dkwX7_losesReads_1 ++ dktX7_losesReads_2
def dkwX7_losesReads_0 : List UInt8 := [42, 180, 0, 3, 180, 0, 136, 182, 0, 139, 76, 43, 185, 0, 143, 1, 0, 153, 0, 42, 43]
abbrev dktX7_losesReads_0 : List UInt8 := dkwX7_losesReads_0 ++ dktX7_losesReads_1
theorem dksX7_losesReads_0 : cX7_losesReads.data.toList.drop 0 = dktX7_losesReads_0 := by decide +kernel
theorem dksX7_losesReads_1 : cX7_losesReads.data.toList.drop 21 = dktX7_losesReads_1 := dk_seg dksX7_losesReads_0 21 rfl rfl
theorem dksX7_losesReads_2 : cX7_losesReads.data.toList.drop 45 = dktX7_losesReads_2 := dk_seg dksX7_losesReads_1 24 rfl rfl
theorem dX7_losesReads_0 : decode cX7_losesReads 0 = .ok (.aload_n 0, 1) := dk_42 (dk_at dksX7_losesReads_0 0 rfl rfl)
theorem dX7_losesReads_1 : decode cX7_losesReads 1 = .ok (.getfield 3, 3) := dk_180 0 3 (dk_at dksX7_losesReads_0 1 rfl rfl)
theorem dX7_losesReads_4 : decode cX7_losesReads 4 = .ok (.getfield 136, 3) := dk_180 0 136 (dk_at dksX7_losesReads_0 4 rfl rfl)
theorem dX7_losesReads_7 : decode cX7_losesReads 7 = .ok (.invokevirtual 139, 3) := dk_182 0 139 (dk_at dksX7_losesReads_0 7 rfl rfl)
theorem dX7_losesReads_10 : decode cX7_losesReads 10 = .ok (.astore_n 1, 1) := dk_76 (dk_at dksX7_losesReads_0 10 rfl rfl)
theorem dX7_losesReads_11 : decode cX7_losesReads 11 = .ok (.aload_n 1, 1) := dk_43 (dk_at dksX7_losesReads_0 11 rfl rfl)
theorem dX7_losesReads_12 : decode cX7_losesReads 12 = .ok (.invokeinterface 143 1, 5) := by decide +kernel
theorem dX7_losesReads_17 : decode cX7_losesReads 17 = .ok (.ifCond .eq 42, 3) := dk_153 0 42 (dk_at dksX7_losesReads_0 17 rfl rfl)
theorem dX7_losesReads_20 : decode cX7_losesReads 20 = .ok (.aload_n 1, 1) := dk_43 (dk_at dksX7_losesReads_0 20 rfl rfl)
theorem dX7_losesReads_21 : decode cX7_losesReads 21 = .ok (.invokeinterface 149 1, 5) := by decide +kernel
theorem dX7_losesReads_26 : decode cX7_losesReads 26 = .ok (.checkcast 152, 3) := dk_192 0 152 (dk_at dksX7_losesReads_1 5 rfl rfl)
theorem dX7_losesReads_29 : decode cX7_losesReads 29 = .ok (.astore_n 2, 1) := dk_77 (dk_at dksX7_losesReads_1 8 rfl rfl)
theorem dX7_losesReads_30 : decode cX7_losesReads 30 = .ok (.aload_n 2, 1) := dk_44 (dk_at dksX7_losesReads_1 9 rfl rfl)
theorem dX7_losesReads_31 : decode cX7_losesReads 31 = .ok (.getfield 154, 3) := dk_180 0 154 (dk_at dksX7_losesReads_1 10 rfl rfl)
theorem dX7_losesReads_34 : decode cX7_losesReads 34 = .ok (.aload_n 0, 1) := dk_42 (dk_at dksX7_losesReads_1 13 rfl rfl)
theorem dX7_losesReads_35 : decode cX7_losesReads 35 = .ok (.getfield 53, 3) := dk_180 0 53 (dk_at dksX7_losesReads_1 14 rfl rfl)
theorem dX7_losesReads_38 : decode cX7_losesReads 38 = .ok (.if_icmp .ne 18, 3) := dk_160 0 18 (dk_at dksX7_losesReads_1 17 rfl rfl)
theorem dX7_losesReads_41 : decode cX7_losesReads 41 = .ok (.aload_n 2, 1) := dk_44 (dk_at dksX7_losesReads_1 20 rfl rfl)
theorem dX7_losesReads_42 : decode cX7_losesReads 42 = .ok (.getfield 157, 3) := dk_180 0 157 (dk_at dksX7_losesReads_1 21 rfl rfl)
theorem dX7_losesReads_45 : decode cX7_losesReads 45 = .ok (.bipush 119, 2) := dk_16 119 (dk_at dksX7_losesReads_2 0 rfl rfl)
theorem dX7_losesReads_47 : decode cX7_losesReads 47 = .ok (.if_icmp .ne 9, 3) := dk_160 0 9 (dk_at dksX7_losesReads_2 2 rfl rfl)
theorem dX7_losesReads_50 : decode cX7_losesReads 50 = .ok (.aload_n 2, 1) := dk_44 (dk_at dksX7_losesReads_2 5 rfl rfl)
theorem dX7_losesReads_51 : decode cX7_losesReads 51 = .ok (.bipush 108, 2) := dk_16 108 (dk_at dksX7_losesReads_2 6 rfl rfl)
theorem dX7_losesReads_53 : decode cX7_losesReads 53 = .ok (.putfield 157, 3) := dk_181 0 157 (dk_at dksX7_losesReads_2 8 rfl rfl)
theorem dX7_losesReads_56 : decode cX7_losesReads 56 = .ok (.goto (-45), 3) := dk_167 255 211 (dk_at dksX7_losesReads_2 11 rfl rfl)
theorem dX7_losesReads_59 : decode cX7_losesReads 59 = .ok (.return_, 1) := dk_177 (dk_at dksX7_losesReads_2 14 rfl rfl)
abbrev cX7_looksAtReads : ByteArray := prog_22_method_23_code
def yX7_looksAtReads : MethodName := ⟨RX7, "looksAtReads", "()V"⟩
def dkwX7_looksAtReads_4 : List UInt8 := [180, 1, 3, 46, 181, 1, 6, 167, 255, 187, 177]
abbrev dktX7_looksAtReads_4 : List UInt8 := dkwX7_looksAtReads_4 ++ []
def dkwX7_looksAtReads_3 : List UInt8 := [45, 180, 0, 255, 27, 163, 0, 25, 45, 16, 114, 181, 0, 157, 45, 42, 180, 0, 68, 180, 1, 0, 45]
abbrev dktX7_looksAtReads_3 : List UInt8 := dkwX7_looksAtReads_3 ++ dktX7_looksAtReads_4
def dkwX7_looksAtReads_2 : List UInt8 := [192, 0, 152, 78, 45, 180, 0, 154, 42, 180, 0, 53, 160, 0, 42, 45, 180, 0, 157, 16, 119, 160, 0, 33]
abbrev dktX7_looksAtReads_2 : List UInt8 := dkwX7_looksAtReads_2 ++ dktX7_looksAtReads_3
def dkwX7_looksAtReads_1 : List UInt8 := [180, 0, 136, 182, 0, 139, 77, 44, 185, 0, 143, 1, 0, 153, 0, 66, 44, 185, 0, 149, 1, 0]
abbrev dktX7_looksAtReads_1 : List UInt8 := dkwX7_looksAtReads_1 ++ dktX7_looksAtReads_2
def dkwX7_looksAtReads_0 : List UInt8 := [42, 180, 0, 19, 16, 108, 160, 0, 10, 42, 182, 0, 252, 167, 0, 4, 3, 60, 42, 180, 0, 3]
abbrev dktX7_looksAtReads_0 : List UInt8 := dkwX7_looksAtReads_0 ++ dktX7_looksAtReads_1
theorem dksX7_looksAtReads_0 : cX7_looksAtReads.data.toList.drop 0 = dktX7_looksAtReads_0 := by decide +kernel
theorem dksX7_looksAtReads_1 : cX7_looksAtReads.data.toList.drop 22 = dktX7_looksAtReads_1 := dk_seg dksX7_looksAtReads_0 22 rfl rfl
theorem dksX7_looksAtReads_2 : cX7_looksAtReads.data.toList.drop 44 = dktX7_looksAtReads_2 := dk_seg dksX7_looksAtReads_1 22 rfl rfl
theorem dksX7_looksAtReads_3 : cX7_looksAtReads.data.toList.drop 68 = dktX7_looksAtReads_3 := dk_seg dksX7_looksAtReads_2 24 rfl rfl
theorem dksX7_looksAtReads_4 : cX7_looksAtReads.data.toList.drop 91 = dktX7_looksAtReads_4 := dk_seg dksX7_looksAtReads_3 23 rfl rfl
theorem dX7_looksAtReads_0 : decode cX7_looksAtReads 0 = .ok (.aload_n 0, 1) := dk_42 (dk_at dksX7_looksAtReads_0 0 rfl rfl)
theorem dX7_looksAtReads_1 : decode cX7_looksAtReads 1 = .ok (.getfield 19, 3) := dk_180 0 19 (dk_at dksX7_looksAtReads_0 1 rfl rfl)
theorem dX7_looksAtReads_4 : decode cX7_looksAtReads 4 = .ok (.bipush 108, 2) := dk_16 108 (dk_at dksX7_looksAtReads_0 4 rfl rfl)
theorem dX7_looksAtReads_6 : decode cX7_looksAtReads 6 = .ok (.if_icmp .ne 10, 3) := dk_160 0 10 (dk_at dksX7_looksAtReads_0 6 rfl rfl)
theorem dX7_looksAtReads_9 : decode cX7_looksAtReads 9 = .ok (.aload_n 0, 1) := dk_42 (dk_at dksX7_looksAtReads_0 9 rfl rfl)
theorem dX7_looksAtReads_10 : decode cX7_looksAtReads 10 = .ok (.invokevirtual 252, 3) := dk_182 0 252 (dk_at dksX7_looksAtReads_0 10 rfl rfl)
theorem dX7_looksAtReads_13 : decode cX7_looksAtReads 13 = .ok (.goto 4, 3) := dk_167 0 4 (dk_at dksX7_looksAtReads_0 13 rfl rfl)
theorem dX7_looksAtReads_16 : decode cX7_looksAtReads 16 = .ok (.iconst 0, 1) := dk_3 (dk_at dksX7_looksAtReads_0 16 rfl rfl)
theorem dX7_looksAtReads_17 : decode cX7_looksAtReads 17 = .ok (.istore_n 1, 1) := dk_60 (dk_at dksX7_looksAtReads_0 17 rfl rfl)
theorem dX7_looksAtReads_18 : decode cX7_looksAtReads 18 = .ok (.aload_n 0, 1) := dk_42 (dk_at dksX7_looksAtReads_0 18 rfl rfl)
theorem dX7_looksAtReads_19 : decode cX7_looksAtReads 19 = .ok (.getfield 3, 3) := dk_180 0 3 (dk_at dksX7_looksAtReads_0 19 rfl rfl)
theorem dX7_looksAtReads_22 : decode cX7_looksAtReads 22 = .ok (.getfield 136, 3) := dk_180 0 136 (dk_at dksX7_looksAtReads_1 0 rfl rfl)
theorem dX7_looksAtReads_25 : decode cX7_looksAtReads 25 = .ok (.invokevirtual 139, 3) := dk_182 0 139 (dk_at dksX7_looksAtReads_1 3 rfl rfl)
theorem dX7_looksAtReads_28 : decode cX7_looksAtReads 28 = .ok (.astore_n 2, 1) := dk_77 (dk_at dksX7_looksAtReads_1 6 rfl rfl)
theorem dX7_looksAtReads_29 : decode cX7_looksAtReads 29 = .ok (.aload_n 2, 1) := dk_44 (dk_at dksX7_looksAtReads_1 7 rfl rfl)
theorem dX7_looksAtReads_30 : decode cX7_looksAtReads 30 = .ok (.invokeinterface 143 1, 5) := by decide +kernel
theorem dX7_looksAtReads_35 : decode cX7_looksAtReads 35 = .ok (.ifCond .eq 66, 3) := dk_153 0 66 (dk_at dksX7_looksAtReads_1 13 rfl rfl)
theorem dX7_looksAtReads_38 : decode cX7_looksAtReads 38 = .ok (.aload_n 2, 1) := dk_44 (dk_at dksX7_looksAtReads_1 16 rfl rfl)
theorem dX7_looksAtReads_39 : decode cX7_looksAtReads 39 = .ok (.invokeinterface 149 1, 5) := by decide +kernel
theorem dX7_looksAtReads_44 : decode cX7_looksAtReads 44 = .ok (.checkcast 152, 3) := dk_192 0 152 (dk_at dksX7_looksAtReads_2 0 rfl rfl)
theorem dX7_looksAtReads_47 : decode cX7_looksAtReads 47 = .ok (.astore_n 3, 1) := dk_78 (dk_at dksX7_looksAtReads_2 3 rfl rfl)
theorem dX7_looksAtReads_48 : decode cX7_looksAtReads 48 = .ok (.aload_n 3, 1) := dk_45 (dk_at dksX7_looksAtReads_2 4 rfl rfl)
theorem dX7_looksAtReads_49 : decode cX7_looksAtReads 49 = .ok (.getfield 154, 3) := dk_180 0 154 (dk_at dksX7_looksAtReads_2 5 rfl rfl)
theorem dX7_looksAtReads_52 : decode cX7_looksAtReads 52 = .ok (.aload_n 0, 1) := dk_42 (dk_at dksX7_looksAtReads_2 8 rfl rfl)
theorem dX7_looksAtReads_53 : decode cX7_looksAtReads 53 = .ok (.getfield 53, 3) := dk_180 0 53 (dk_at dksX7_looksAtReads_2 9 rfl rfl)
theorem dX7_looksAtReads_56 : decode cX7_looksAtReads 56 = .ok (.if_icmp .ne 42, 3) := dk_160 0 42 (dk_at dksX7_looksAtReads_2 12 rfl rfl)
theorem dX7_looksAtReads_59 : decode cX7_looksAtReads 59 = .ok (.aload_n 3, 1) := dk_45 (dk_at dksX7_looksAtReads_2 15 rfl rfl)
theorem dX7_looksAtReads_60 : decode cX7_looksAtReads 60 = .ok (.getfield 157, 3) := dk_180 0 157 (dk_at dksX7_looksAtReads_2 16 rfl rfl)
theorem dX7_looksAtReads_63 : decode cX7_looksAtReads 63 = .ok (.bipush 119, 2) := dk_16 119 (dk_at dksX7_looksAtReads_2 19 rfl rfl)
theorem dX7_looksAtReads_65 : decode cX7_looksAtReads 65 = .ok (.if_icmp .ne 33, 3) := dk_160 0 33 (dk_at dksX7_looksAtReads_2 21 rfl rfl)
theorem dX7_looksAtReads_68 : decode cX7_looksAtReads 68 = .ok (.aload_n 3, 1) := dk_45 (dk_at dksX7_looksAtReads_3 0 rfl rfl)
theorem dX7_looksAtReads_69 : decode cX7_looksAtReads 69 = .ok (.getfield 255, 3) := dk_180 0 255 (dk_at dksX7_looksAtReads_3 1 rfl rfl)
theorem dX7_looksAtReads_72 : decode cX7_looksAtReads 72 = .ok (.iload_n 1, 1) := dk_27 (dk_at dksX7_looksAtReads_3 4 rfl rfl)
theorem dX7_looksAtReads_73 : decode cX7_looksAtReads 73 = .ok (.if_icmp .gt 25, 3) := dk_163 0 25 (dk_at dksX7_looksAtReads_3 5 rfl rfl)
theorem dX7_looksAtReads_76 : decode cX7_looksAtReads 76 = .ok (.aload_n 3, 1) := dk_45 (dk_at dksX7_looksAtReads_3 8 rfl rfl)
theorem dX7_looksAtReads_77 : decode cX7_looksAtReads 77 = .ok (.bipush 114, 2) := dk_16 114 (dk_at dksX7_looksAtReads_3 9 rfl rfl)
theorem dX7_looksAtReads_79 : decode cX7_looksAtReads 79 = .ok (.putfield 157, 3) := dk_181 0 157 (dk_at dksX7_looksAtReads_3 11 rfl rfl)
theorem dX7_looksAtReads_82 : decode cX7_looksAtReads 82 = .ok (.aload_n 3, 1) := dk_45 (dk_at dksX7_looksAtReads_3 14 rfl rfl)
theorem dX7_looksAtReads_83 : decode cX7_looksAtReads 83 = .ok (.aload_n 0, 1) := dk_42 (dk_at dksX7_looksAtReads_3 15 rfl rfl)
theorem dX7_looksAtReads_84 : decode cX7_looksAtReads 84 = .ok (.getfield 68, 3) := dk_180 0 68 (dk_at dksX7_looksAtReads_3 16 rfl rfl)
theorem dX7_looksAtReads_87 : decode cX7_looksAtReads 87 = .ok (.getfield 256, 3) := dk_180 1 0 (dk_at dksX7_looksAtReads_3 19 rfl rfl)
theorem dX7_looksAtReads_90 : decode cX7_looksAtReads 90 = .ok (.aload_n 3, 1) := dk_45 (dk_at dksX7_looksAtReads_3 22 rfl rfl)
theorem dX7_looksAtReads_91 : decode cX7_looksAtReads 91 = .ok (.getfield 259, 3) := dk_180 1 3 (dk_at dksX7_looksAtReads_4 0 rfl rfl)
theorem dX7_looksAtReads_94 : decode cX7_looksAtReads 94 = .ok (.iaload, 1) := dk_46 (dk_at dksX7_looksAtReads_4 3 rfl rfl)
theorem dX7_looksAtReads_95 : decode cX7_looksAtReads 95 = .ok (.putfield 262, 3) := dk_181 1 6 (dk_at dksX7_looksAtReads_4 4 rfl rfl)
theorem dX7_looksAtReads_98 : decode cX7_looksAtReads 98 = .ok (.goto (-69), 3) := dk_167 255 187 (dk_at dksX7_looksAtReads_4 7 rfl rfl)
theorem dX7_looksAtReads_101 : decode cX7_looksAtReads 101 = .ok (.return_, 1) := dk_177 (dk_at dksX7_looksAtReads_4 10 rfl rfl)
abbrev cX7_answeredByMost : ByteArray := prog_22_method_20_code
def yX7_answeredByMost : MethodName := ⟨RX7, "answeredByMost", "()I"⟩
def dkwX7_answeredByMost_3 : List UInt8 := [182, 0, 197, 153, 0, 7, 28, 167, 0, 4, 27, 60, 132, 2, 1, 167, 255, 175, 27, 172]
abbrev dktX7_answeredByMost_3 : List UInt8 := dkwX7_answeredByMost_3 ++ []
def dkwX7_answeredByMost_2 : List UInt8 := [46, 28, 161, 0, 10, 4, 21, 4, 120, 167, 0, 4, 3, 128, 62, 132, 4, 1, 167, 255, 216, 42, 29]
abbrev dktX7_answeredByMost_2 : List UInt8 := dkwX7_answeredByMost_2 ++ dktX7_answeredByMost_3
def dkwX7_answeredByMost_1 : List UInt8 := [54, 4, 21, 4, 8, 162, 0, 40, 29, 21, 4, 42, 180, 0, 53, 159, 0, 21, 42, 180, 0, 47, 21, 4]
abbrev dktX7_answeredByMost_1 : List UInt8 := dkwX7_answeredByMost_1 ++ dktX7_answeredByMost_2
def dkwX7_answeredByMost_0 : List UInt8 := [3, 60, 4, 61, 28, 42, 180, 0, 50, 182, 0, 75, 163, 0, 76, 4, 42, 180, 0, 53, 120, 62, 3]
abbrev dktX7_answeredByMost_0 : List UInt8 := dkwX7_answeredByMost_0 ++ dktX7_answeredByMost_1
theorem dksX7_answeredByMost_0 : cX7_answeredByMost.data.toList.drop 0 = dktX7_answeredByMost_0 := by decide +kernel
theorem dksX7_answeredByMost_1 : cX7_answeredByMost.data.toList.drop 23 = dktX7_answeredByMost_1 := dk_seg dksX7_answeredByMost_0 23 rfl rfl
theorem dksX7_answeredByMost_2 : cX7_answeredByMost.data.toList.drop 47 = dktX7_answeredByMost_2 := dk_seg dksX7_answeredByMost_1 24 rfl rfl
theorem dksX7_answeredByMost_3 : cX7_answeredByMost.data.toList.drop 70 = dktX7_answeredByMost_3 := dk_seg dksX7_answeredByMost_2 23 rfl rfl
theorem dX7_answeredByMost_0 : decode cX7_answeredByMost 0 = .ok (.iconst 0, 1) := dk_3 (dk_at dksX7_answeredByMost_0 0 rfl rfl)
theorem dX7_answeredByMost_1 : decode cX7_answeredByMost 1 = .ok (.istore_n 1, 1) := dk_60 (dk_at dksX7_answeredByMost_0 1 rfl rfl)
theorem dX7_answeredByMost_2 : decode cX7_answeredByMost 2 = .ok (.iconst 1, 1) := dk_4 (dk_at dksX7_answeredByMost_0 2 rfl rfl)
theorem dX7_answeredByMost_3 : decode cX7_answeredByMost 3 = .ok (.istore_n 2, 1) := dk_61 (dk_at dksX7_answeredByMost_0 3 rfl rfl)
theorem dX7_answeredByMost_4 : decode cX7_answeredByMost 4 = .ok (.iload_n 2, 1) := dk_28 (dk_at dksX7_answeredByMost_0 4 rfl rfl)
theorem dX7_answeredByMost_5 : decode cX7_answeredByMost 5 = .ok (.aload_n 0, 1) := dk_42 (dk_at dksX7_answeredByMost_0 5 rfl rfl)
theorem dX7_answeredByMost_6 : decode cX7_answeredByMost 6 = .ok (.getfield 50, 3) := dk_180 0 50 (dk_at dksX7_answeredByMost_0 6 rfl rfl)
theorem dX7_answeredByMost_9 : decode cX7_answeredByMost 9 = .ok (.invokevirtual 75, 3) := dk_182 0 75 (dk_at dksX7_answeredByMost_0 9 rfl rfl)
theorem dX7_answeredByMost_12 : decode cX7_answeredByMost 12 = .ok (.if_icmp .gt 76, 3) := dk_163 0 76 (dk_at dksX7_answeredByMost_0 12 rfl rfl)
theorem dX7_answeredByMost_15 : decode cX7_answeredByMost 15 = .ok (.iconst 1, 1) := dk_4 (dk_at dksX7_answeredByMost_0 15 rfl rfl)
theorem dX7_answeredByMost_16 : decode cX7_answeredByMost 16 = .ok (.aload_n 0, 1) := dk_42 (dk_at dksX7_answeredByMost_0 16 rfl rfl)
theorem dX7_answeredByMost_17 : decode cX7_answeredByMost 17 = .ok (.getfield 53, 3) := dk_180 0 53 (dk_at dksX7_answeredByMost_0 17 rfl rfl)
theorem dX7_answeredByMost_20 : decode cX7_answeredByMost 20 = .ok (.ishl, 1) := dk_120 (dk_at dksX7_answeredByMost_0 20 rfl rfl)
theorem dX7_answeredByMost_21 : decode cX7_answeredByMost 21 = .ok (.istore_n 3, 1) := dk_62 (dk_at dksX7_answeredByMost_0 21 rfl rfl)
theorem dX7_answeredByMost_22 : decode cX7_answeredByMost 22 = .ok (.iconst 0, 1) := dk_3 (dk_at dksX7_answeredByMost_0 22 rfl rfl)
theorem dX7_answeredByMost_23 : decode cX7_answeredByMost 23 = .ok (.istore 4, 2) := dk_54 4 (dk_at dksX7_answeredByMost_1 0 rfl rfl)
theorem dX7_answeredByMost_25 : decode cX7_answeredByMost 25 = .ok (.iload 4, 2) := dk_21 4 (dk_at dksX7_answeredByMost_1 2 rfl rfl)
theorem dX7_answeredByMost_27 : decode cX7_answeredByMost 27 = .ok (.iconst 5, 1) := dk_8 (dk_at dksX7_answeredByMost_1 4 rfl rfl)
theorem dX7_answeredByMost_28 : decode cX7_answeredByMost 28 = .ok (.if_icmp .ge 40, 3) := dk_162 0 40 (dk_at dksX7_answeredByMost_1 5 rfl rfl)
theorem dX7_answeredByMost_31 : decode cX7_answeredByMost 31 = .ok (.iload_n 3, 1) := dk_29 (dk_at dksX7_answeredByMost_1 8 rfl rfl)
theorem dX7_answeredByMost_32 : decode cX7_answeredByMost 32 = .ok (.iload 4, 2) := dk_21 4 (dk_at dksX7_answeredByMost_1 9 rfl rfl)
theorem dX7_answeredByMost_34 : decode cX7_answeredByMost 34 = .ok (.aload_n 0, 1) := dk_42 (dk_at dksX7_answeredByMost_1 11 rfl rfl)
theorem dX7_answeredByMost_35 : decode cX7_answeredByMost 35 = .ok (.getfield 53, 3) := dk_180 0 53 (dk_at dksX7_answeredByMost_1 12 rfl rfl)
theorem dX7_answeredByMost_38 : decode cX7_answeredByMost 38 = .ok (.if_icmp .eq 21, 3) := dk_159 0 21 (dk_at dksX7_answeredByMost_1 15 rfl rfl)
theorem dX7_answeredByMost_41 : decode cX7_answeredByMost 41 = .ok (.aload_n 0, 1) := dk_42 (dk_at dksX7_answeredByMost_1 18 rfl rfl)
theorem dX7_answeredByMost_42 : decode cX7_answeredByMost 42 = .ok (.getfield 47, 3) := dk_180 0 47 (dk_at dksX7_answeredByMost_1 19 rfl rfl)
theorem dX7_answeredByMost_45 : decode cX7_answeredByMost 45 = .ok (.iload 4, 2) := dk_21 4 (dk_at dksX7_answeredByMost_1 22 rfl rfl)
theorem dX7_answeredByMost_47 : decode cX7_answeredByMost 47 = .ok (.iaload, 1) := dk_46 (dk_at dksX7_answeredByMost_2 0 rfl rfl)
theorem dX7_answeredByMost_48 : decode cX7_answeredByMost 48 = .ok (.iload_n 2, 1) := dk_28 (dk_at dksX7_answeredByMost_2 1 rfl rfl)
theorem dX7_answeredByMost_49 : decode cX7_answeredByMost 49 = .ok (.if_icmp .lt 10, 3) := dk_161 0 10 (dk_at dksX7_answeredByMost_2 2 rfl rfl)
theorem dX7_answeredByMost_52 : decode cX7_answeredByMost 52 = .ok (.iconst 1, 1) := dk_4 (dk_at dksX7_answeredByMost_2 5 rfl rfl)
theorem dX7_answeredByMost_53 : decode cX7_answeredByMost 53 = .ok (.iload 4, 2) := dk_21 4 (dk_at dksX7_answeredByMost_2 6 rfl rfl)
theorem dX7_answeredByMost_55 : decode cX7_answeredByMost 55 = .ok (.ishl, 1) := dk_120 (dk_at dksX7_answeredByMost_2 8 rfl rfl)
theorem dX7_answeredByMost_56 : decode cX7_answeredByMost 56 = .ok (.goto 4, 3) := dk_167 0 4 (dk_at dksX7_answeredByMost_2 9 rfl rfl)
theorem dX7_answeredByMost_59 : decode cX7_answeredByMost 59 = .ok (.iconst 0, 1) := dk_3 (dk_at dksX7_answeredByMost_2 12 rfl rfl)
theorem dX7_answeredByMost_60 : decode cX7_answeredByMost 60 = .ok (.ior, 1) := dk_128 (dk_at dksX7_answeredByMost_2 13 rfl rfl)
theorem dX7_answeredByMost_61 : decode cX7_answeredByMost 61 = .ok (.istore_n 3, 1) := dk_62 (dk_at dksX7_answeredByMost_2 14 rfl rfl)
theorem dX7_answeredByMost_62 : decode cX7_answeredByMost 62 = .ok (.iinc 4 1, 3) := dk_132 4 1 (dk_at dksX7_answeredByMost_2 15 rfl rfl)
theorem dX7_answeredByMost_65 : decode cX7_answeredByMost 65 = .ok (.goto (-40), 3) := dk_167 255 216 (dk_at dksX7_answeredByMost_2 18 rfl rfl)
theorem dX7_answeredByMost_68 : decode cX7_answeredByMost 68 = .ok (.aload_n 0, 1) := dk_42 (dk_at dksX7_answeredByMost_2 21 rfl rfl)
theorem dX7_answeredByMost_69 : decode cX7_answeredByMost 69 = .ok (.iload_n 3, 1) := dk_29 (dk_at dksX7_answeredByMost_2 22 rfl rfl)
theorem dX7_answeredByMost_70 : decode cX7_answeredByMost 70 = .ok (.invokevirtual 197, 3) := dk_182 0 197 (dk_at dksX7_answeredByMost_3 0 rfl rfl)
theorem dX7_answeredByMost_73 : decode cX7_answeredByMost 73 = .ok (.ifCond .eq 7, 3) := dk_153 0 7 (dk_at dksX7_answeredByMost_3 3 rfl rfl)
theorem dX7_answeredByMost_76 : decode cX7_answeredByMost 76 = .ok (.iload_n 2, 1) := dk_28 (dk_at dksX7_answeredByMost_3 6 rfl rfl)
theorem dX7_answeredByMost_77 : decode cX7_answeredByMost 77 = .ok (.goto 4, 3) := dk_167 0 4 (dk_at dksX7_answeredByMost_3 7 rfl rfl)
theorem dX7_answeredByMost_80 : decode cX7_answeredByMost 80 = .ok (.iload_n 1, 1) := dk_27 (dk_at dksX7_answeredByMost_3 10 rfl rfl)
theorem dX7_answeredByMost_81 : decode cX7_answeredByMost 81 = .ok (.istore_n 1, 1) := dk_60 (dk_at dksX7_answeredByMost_3 11 rfl rfl)
theorem dX7_answeredByMost_82 : decode cX7_answeredByMost 82 = .ok (.iinc 2 1, 3) := dk_132 2 1 (dk_at dksX7_answeredByMost_3 12 rfl rfl)
theorem dX7_answeredByMost_85 : decode cX7_answeredByMost 85 = .ok (.goto (-81), 3) := dk_167 255 175 (dk_at dksX7_answeredByMost_3 15 rfl rfl)
theorem dX7_answeredByMost_88 : decode cX7_answeredByMost 88 = .ok (.iload_n 1, 1) := dk_27 (dk_at dksX7_answeredByMost_3 18 rfl rfl)
theorem dX7_answeredByMost_89 : decode cX7_answeredByMost 89 = .ok (.ireturn, 1) := dk_172 (dk_at dksX7_answeredByMost_3 19 rfl rfl)
abbrev cX7_answers : ByteArray := prog_22_method_29_code
def yX7_answers : MethodName := ⟨RX7, "answers", "()V"⟩
def dkwX7_answers_2 : List UInt8 := [180, 0, 243, 184, 1, 48, 181, 0, 187, 177]
abbrev dktX7_answers_2 : List UInt8 := dkwX7_answers_2 ++ []
def dkwX7_answers_1 : List UInt8 := [181, 0, 184, 43, 42, 180, 0, 130, 181, 0, 216, 43, 4, 181, 1, 17, 43, 42, 180, 0, 127, 42]
abbrev dktX7_answers_1 : List UInt8 := dkwX7_answers_1 ++ dktX7_answers_2
def dkwX7_answers_0 : List UInt8 := [42, 180, 0, 3, 16, 107, 42, 180, 0, 53, 42, 180, 0, 37, 182, 0, 180, 76, 43, 42, 180, 0, 126]
abbrev dktX7_answers_0 : List UInt8 := dkwX7_answers_0 ++ dktX7_answers_1
theorem dksX7_answers_0 : cX7_answers.data.toList.drop 0 = dktX7_answers_0 := by decide +kernel
theorem dksX7_answers_1 : cX7_answers.data.toList.drop 23 = dktX7_answers_1 := dk_seg dksX7_answers_0 23 rfl rfl
theorem dksX7_answers_2 : cX7_answers.data.toList.drop 45 = dktX7_answers_2 := dk_seg dksX7_answers_1 22 rfl rfl
theorem dX7_answers_0 : decode cX7_answers 0 = .ok (.aload_n 0, 1) := dk_42 (dk_at dksX7_answers_0 0 rfl rfl)
theorem dX7_answers_1 : decode cX7_answers 1 = .ok (.getfield 3, 3) := dk_180 0 3 (dk_at dksX7_answers_0 1 rfl rfl)
theorem dX7_answers_4 : decode cX7_answers 4 = .ok (.bipush 107, 2) := dk_16 107 (dk_at dksX7_answers_0 4 rfl rfl)
theorem dX7_answers_6 : decode cX7_answers 6 = .ok (.aload_n 0, 1) := dk_42 (dk_at dksX7_answers_0 6 rfl rfl)
theorem dX7_answers_7 : decode cX7_answers 7 = .ok (.getfield 53, 3) := dk_180 0 53 (dk_at dksX7_answers_0 7 rfl rfl)
theorem dX7_answers_10 : decode cX7_answers 10 = .ok (.aload_n 0, 1) := dk_42 (dk_at dksX7_answers_0 10 rfl rfl)
theorem dX7_answers_11 : decode cX7_answers 11 = .ok (.getfield 37, 3) := dk_180 0 37 (dk_at dksX7_answers_0 11 rfl rfl)
theorem dX7_answers_14 : decode cX7_answers 14 = .ok (.invokevirtual 180, 3) := dk_182 0 180 (dk_at dksX7_answers_0 14 rfl rfl)
theorem dX7_answers_17 : decode cX7_answers 17 = .ok (.astore_n 1, 1) := dk_76 (dk_at dksX7_answers_0 17 rfl rfl)
theorem dX7_answers_18 : decode cX7_answers 18 = .ok (.aload_n 1, 1) := dk_43 (dk_at dksX7_answers_0 18 rfl rfl)
theorem dX7_answers_19 : decode cX7_answers 19 = .ok (.aload_n 0, 1) := dk_42 (dk_at dksX7_answers_0 19 rfl rfl)
theorem dX7_answers_20 : decode cX7_answers 20 = .ok (.getfield 126, 3) := dk_180 0 126 (dk_at dksX7_answers_0 20 rfl rfl)
theorem dX7_answers_23 : decode cX7_answers 23 = .ok (.putfield 184, 3) := dk_181 0 184 (dk_at dksX7_answers_1 0 rfl rfl)
theorem dX7_answers_26 : decode cX7_answers 26 = .ok (.aload_n 1, 1) := dk_43 (dk_at dksX7_answers_1 3 rfl rfl)
theorem dX7_answers_27 : decode cX7_answers 27 = .ok (.aload_n 0, 1) := dk_42 (dk_at dksX7_answers_1 4 rfl rfl)
theorem dX7_answers_28 : decode cX7_answers 28 = .ok (.getfield 130, 3) := dk_180 0 130 (dk_at dksX7_answers_1 5 rfl rfl)
theorem dX7_answers_31 : decode cX7_answers 31 = .ok (.putfield 216, 3) := dk_181 0 216 (dk_at dksX7_answers_1 8 rfl rfl)
theorem dX7_answers_34 : decode cX7_answers 34 = .ok (.aload_n 1, 1) := dk_43 (dk_at dksX7_answers_1 11 rfl rfl)
theorem dX7_answers_35 : decode cX7_answers 35 = .ok (.iconst 1, 1) := dk_4 (dk_at dksX7_answers_1 12 rfl rfl)
theorem dX7_answers_36 : decode cX7_answers 36 = .ok (.putfield 273, 3) := dk_181 1 17 (dk_at dksX7_answers_1 13 rfl rfl)
theorem dX7_answers_39 : decode cX7_answers 39 = .ok (.aload_n 1, 1) := dk_43 (dk_at dksX7_answers_1 16 rfl rfl)
theorem dX7_answers_40 : decode cX7_answers 40 = .ok (.aload_n 0, 1) := dk_42 (dk_at dksX7_answers_1 17 rfl rfl)
theorem dX7_answers_41 : decode cX7_answers 41 = .ok (.getfield 127, 3) := dk_180 0 127 (dk_at dksX7_answers_1 18 rfl rfl)
theorem dX7_answers_44 : decode cX7_answers 44 = .ok (.aload_n 0, 1) := dk_42 (dk_at dksX7_answers_1 21 rfl rfl)
theorem dX7_answers_45 : decode cX7_answers 45 = .ok (.getfield 243, 3) := dk_180 0 243 (dk_at dksX7_answers_2 0 rfl rfl)
theorem dX7_answers_48 : decode cX7_answers 48 = .ok (.invokestatic 304, 3) := dk_184 1 48 (dk_at dksX7_answers_2 3 rfl rfl)
theorem dX7_answers_51 : decode cX7_answers 51 = .ok (.putfield 187, 3) := dk_181 0 187 (dk_at dksX7_answers_2 6 rfl rfl)
theorem dX7_answers_54 : decode cX7_answers 54 = .ok (.return_, 1) := dk_177 (dk_at dksX7_answers_2 9 rfl rfl)
abbrev cX7_crashes : ByteArray := prog_22_method_32_code
def yX7_crashes : MethodName := ⟨RX7, "crashes", "()I"⟩
def dkwX7_crashes_3 : List UInt8 := [181, 0, 37, 42, 3, 181, 0, 130, 27, 172]
abbrev dktX7_crashes_3 : List UInt8 := dkwX7_crashes_3 ++ []
def dkwX7_crashes_2 : List UInt8 := [182, 1, 55, 181, 0, 68, 42, 16, 102, 181, 0, 19, 42, 182, 0, 133, 42, 3, 181, 0, 127, 42, 2]
abbrev dktX7_crashes_2 : List UInt8 := dkwX7_crashes_2 ++ dktX7_crashes_3
def dkwX7_crashes_1 : List UInt8 := [181, 0, 23, 42, 42, 180, 0, 64, 180, 0, 72, 181, 0, 220, 42, 42, 180, 0, 64, 180, 1, 54]
abbrev dktX7_crashes_1 : List UInt8 := dkwX7_crashes_1 ++ dktX7_crashes_2
def dkwX7_crashes_0 : List UInt8 := [42, 182, 0, 85, 42, 180, 0, 243, 100, 60, 42, 42, 180, 0, 243, 4, 96, 182, 1, 45, 42, 3]
abbrev dktX7_crashes_0 : List UInt8 := dkwX7_crashes_0 ++ dktX7_crashes_1
theorem dksX7_crashes_0 : cX7_crashes.data.toList.drop 0 = dktX7_crashes_0 := by decide +kernel
theorem dksX7_crashes_1 : cX7_crashes.data.toList.drop 22 = dktX7_crashes_1 := dk_seg dksX7_crashes_0 22 rfl rfl
theorem dksX7_crashes_2 : cX7_crashes.data.toList.drop 44 = dktX7_crashes_2 := dk_seg dksX7_crashes_1 22 rfl rfl
theorem dksX7_crashes_3 : cX7_crashes.data.toList.drop 67 = dktX7_crashes_3 := dk_seg dksX7_crashes_2 23 rfl rfl
theorem dX7_crashes_0 : decode cX7_crashes 0 = .ok (.aload_n 0, 1) := dk_42 (dk_at dksX7_crashes_0 0 rfl rfl)
theorem dX7_crashes_1 : decode cX7_crashes 1 = .ok (.invokevirtual 85, 3) := dk_182 0 85 (dk_at dksX7_crashes_0 1 rfl rfl)
theorem dX7_crashes_4 : decode cX7_crashes 4 = .ok (.aload_n 0, 1) := dk_42 (dk_at dksX7_crashes_0 4 rfl rfl)
theorem dX7_crashes_5 : decode cX7_crashes 5 = .ok (.getfield 243, 3) := dk_180 0 243 (dk_at dksX7_crashes_0 5 rfl rfl)
theorem dX7_crashes_8 : decode cX7_crashes 8 = .ok (.isub, 1) := dk_100 (dk_at dksX7_crashes_0 8 rfl rfl)
theorem dX7_crashes_9 : decode cX7_crashes 9 = .ok (.istore_n 1, 1) := dk_60 (dk_at dksX7_crashes_0 9 rfl rfl)
theorem dX7_crashes_10 : decode cX7_crashes 10 = .ok (.aload_n 0, 1) := dk_42 (dk_at dksX7_crashes_0 10 rfl rfl)
theorem dX7_crashes_11 : decode cX7_crashes 11 = .ok (.aload_n 0, 1) := dk_42 (dk_at dksX7_crashes_0 11 rfl rfl)
theorem dX7_crashes_12 : decode cX7_crashes 12 = .ok (.getfield 243, 3) := dk_180 0 243 (dk_at dksX7_crashes_0 12 rfl rfl)
theorem dX7_crashes_15 : decode cX7_crashes 15 = .ok (.iconst 1, 1) := dk_4 (dk_at dksX7_crashes_0 15 rfl rfl)
theorem dX7_crashes_16 : decode cX7_crashes 16 = .ok (.iadd, 1) := dk_96 (dk_at dksX7_crashes_0 16 rfl rfl)
theorem dX7_crashes_17 : decode cX7_crashes 17 = .ok (.invokevirtual 301, 3) := dk_182 1 45 (dk_at dksX7_crashes_0 17 rfl rfl)
theorem dX7_crashes_20 : decode cX7_crashes 20 = .ok (.aload_n 0, 1) := dk_42 (dk_at dksX7_crashes_0 20 rfl rfl)
theorem dX7_crashes_21 : decode cX7_crashes 21 = .ok (.iconst 0, 1) := dk_3 (dk_at dksX7_crashes_0 21 rfl rfl)
theorem dX7_crashes_22 : decode cX7_crashes 22 = .ok (.putfield 23, 3) := dk_181 0 23 (dk_at dksX7_crashes_1 0 rfl rfl)
theorem dX7_crashes_25 : decode cX7_crashes 25 = .ok (.aload_n 0, 1) := dk_42 (dk_at dksX7_crashes_1 3 rfl rfl)
theorem dX7_crashes_26 : decode cX7_crashes 26 = .ok (.aload_n 0, 1) := dk_42 (dk_at dksX7_crashes_1 4 rfl rfl)
theorem dX7_crashes_27 : decode cX7_crashes 27 = .ok (.getfield 64, 3) := dk_180 0 64 (dk_at dksX7_crashes_1 5 rfl rfl)
theorem dX7_crashes_30 : decode cX7_crashes 30 = .ok (.getfield 72, 3) := dk_180 0 72 (dk_at dksX7_crashes_1 8 rfl rfl)
theorem dX7_crashes_33 : decode cX7_crashes 33 = .ok (.putfield 220, 3) := dk_181 0 220 (dk_at dksX7_crashes_1 11 rfl rfl)
theorem dX7_crashes_36 : decode cX7_crashes 36 = .ok (.aload_n 0, 1) := dk_42 (dk_at dksX7_crashes_1 14 rfl rfl)
theorem dX7_crashes_37 : decode cX7_crashes 37 = .ok (.aload_n 0, 1) := dk_42 (dk_at dksX7_crashes_1 15 rfl rfl)
theorem dX7_crashes_38 : decode cX7_crashes 38 = .ok (.getfield 64, 3) := dk_180 0 64 (dk_at dksX7_crashes_1 16 rfl rfl)
theorem dX7_crashes_41 : decode cX7_crashes 41 = .ok (.getfield 310, 3) := dk_180 1 54 (dk_at dksX7_crashes_1 19 rfl rfl)
theorem dX7_crashes_44 : decode cX7_crashes 44 = .ok (.invokevirtual 311, 3) := dk_182 1 55 (dk_at dksX7_crashes_2 0 rfl rfl)
theorem dX7_crashes_47 : decode cX7_crashes 47 = .ok (.putfield 68, 3) := dk_181 0 68 (dk_at dksX7_crashes_2 3 rfl rfl)
theorem dX7_crashes_50 : decode cX7_crashes 50 = .ok (.aload_n 0, 1) := dk_42 (dk_at dksX7_crashes_2 6 rfl rfl)
theorem dX7_crashes_51 : decode cX7_crashes 51 = .ok (.bipush 102, 2) := dk_16 102 (dk_at dksX7_crashes_2 7 rfl rfl)
theorem dX7_crashes_53 : decode cX7_crashes 53 = .ok (.putfield 19, 3) := dk_181 0 19 (dk_at dksX7_crashes_2 9 rfl rfl)
theorem dX7_crashes_56 : decode cX7_crashes 56 = .ok (.aload_n 0, 1) := dk_42 (dk_at dksX7_crashes_2 12 rfl rfl)
theorem dX7_crashes_57 : decode cX7_crashes 57 = .ok (.invokevirtual 133, 3) := dk_182 0 133 (dk_at dksX7_crashes_2 13 rfl rfl)
theorem dX7_crashes_60 : decode cX7_crashes 60 = .ok (.aload_n 0, 1) := dk_42 (dk_at dksX7_crashes_2 16 rfl rfl)
theorem dX7_crashes_61 : decode cX7_crashes 61 = .ok (.iconst 0, 1) := dk_3 (dk_at dksX7_crashes_2 17 rfl rfl)
theorem dX7_crashes_62 : decode cX7_crashes 62 = .ok (.putfield 127, 3) := dk_181 0 127 (dk_at dksX7_crashes_2 18 rfl rfl)
theorem dX7_crashes_65 : decode cX7_crashes 65 = .ok (.aload_n 0, 1) := dk_42 (dk_at dksX7_crashes_2 21 rfl rfl)
theorem dX7_crashes_66 : decode cX7_crashes 66 = .ok (.iconst (-1), 1) := dk_2 (dk_at dksX7_crashes_2 22 rfl rfl)
theorem dX7_crashes_67 : decode cX7_crashes 67 = .ok (.putfield 37, 3) := dk_181 0 37 (dk_at dksX7_crashes_3 0 rfl rfl)
theorem dX7_crashes_70 : decode cX7_crashes 70 = .ok (.aload_n 0, 1) := dk_42 (dk_at dksX7_crashes_3 3 rfl rfl)
theorem dX7_crashes_71 : decode cX7_crashes 71 = .ok (.iconst 0, 1) := dk_3 (dk_at dksX7_crashes_3 4 rfl rfl)
theorem dX7_crashes_72 : decode cX7_crashes 72 = .ok (.putfield 130, 3) := dk_181 0 130 (dk_at dksX7_crashes_3 5 rfl rfl)
theorem dX7_crashes_75 : decode cX7_crashes 75 = .ok (.iload_n 1, 1) := dk_27 (dk_at dksX7_crashes_3 8 rfl rfl)
theorem dX7_crashes_76 : decode cX7_crashes 76 = .ok (.ireturn, 1) := dk_172 (dk_at dksX7_crashes_3 9 rfl rfl)
abbrev cX7_cuts : ByteArray := prog_22_method_27_code
def yX7_cuts : MethodName := ⟨RX7, "cuts", "(I)V"⟩
def dkwX7_cuts_1 : List UInt8 := [192, 0, 83, 77, 167, 255, 228, 42, 42, 180, 0, 243, 42, 182, 0, 85, 184, 1, 48, 181, 0, 243, 177]
abbrev dktX7_cuts_1 : List UInt8 := dkwX7_cuts_1 ++ []
def dkwX7_cuts_0 : List UInt8 := [42, 182, 0, 85, 27, 161, 0, 26, 42, 180, 0, 30, 42, 180, 0, 30, 182, 0, 75, 4, 100, 182, 1, 51]
abbrev dktX7_cuts_0 : List UInt8 := dkwX7_cuts_0 ++ dktX7_cuts_1
theorem dksX7_cuts_0 : cX7_cuts.data.toList.drop 0 = dktX7_cuts_0 := by decide +kernel
theorem dksX7_cuts_1 : cX7_cuts.data.toList.drop 24 = dktX7_cuts_1 := dk_seg dksX7_cuts_0 24 rfl rfl
theorem dX7_cuts_0 : decode cX7_cuts 0 = .ok (.aload_n 0, 1) := dk_42 (dk_at dksX7_cuts_0 0 rfl rfl)
theorem dX7_cuts_1 : decode cX7_cuts 1 = .ok (.invokevirtual 85, 3) := dk_182 0 85 (dk_at dksX7_cuts_0 1 rfl rfl)
theorem dX7_cuts_4 : decode cX7_cuts 4 = .ok (.iload_n 1, 1) := dk_27 (dk_at dksX7_cuts_0 4 rfl rfl)
theorem dX7_cuts_5 : decode cX7_cuts 5 = .ok (.if_icmp .lt 26, 3) := dk_161 0 26 (dk_at dksX7_cuts_0 5 rfl rfl)
theorem dX7_cuts_8 : decode cX7_cuts 8 = .ok (.aload_n 0, 1) := dk_42 (dk_at dksX7_cuts_0 8 rfl rfl)
theorem dX7_cuts_9 : decode cX7_cuts 9 = .ok (.getfield 30, 3) := dk_180 0 30 (dk_at dksX7_cuts_0 9 rfl rfl)
theorem dX7_cuts_12 : decode cX7_cuts 12 = .ok (.aload_n 0, 1) := dk_42 (dk_at dksX7_cuts_0 12 rfl rfl)
theorem dX7_cuts_13 : decode cX7_cuts 13 = .ok (.getfield 30, 3) := dk_180 0 30 (dk_at dksX7_cuts_0 13 rfl rfl)
theorem dX7_cuts_16 : decode cX7_cuts 16 = .ok (.invokevirtual 75, 3) := dk_182 0 75 (dk_at dksX7_cuts_0 16 rfl rfl)
theorem dX7_cuts_19 : decode cX7_cuts 19 = .ok (.iconst 1, 1) := dk_4 (dk_at dksX7_cuts_0 19 rfl rfl)
theorem dX7_cuts_20 : decode cX7_cuts 20 = .ok (.isub, 1) := dk_100 (dk_at dksX7_cuts_0 20 rfl rfl)
theorem dX7_cuts_21 : decode cX7_cuts 21 = .ok (.invokevirtual 307, 3) := dk_182 1 51 (dk_at dksX7_cuts_0 21 rfl rfl)
theorem dX7_cuts_24 : decode cX7_cuts 24 = .ok (.checkcast 83, 3) := dk_192 0 83 (dk_at dksX7_cuts_1 0 rfl rfl)
theorem dX7_cuts_27 : decode cX7_cuts 27 = .ok (.astore_n 2, 1) := dk_77 (dk_at dksX7_cuts_1 3 rfl rfl)
theorem dX7_cuts_28 : decode cX7_cuts 28 = .ok (.goto (-28), 3) := dk_167 255 228 (dk_at dksX7_cuts_1 4 rfl rfl)
theorem dX7_cuts_31 : decode cX7_cuts 31 = .ok (.aload_n 0, 1) := dk_42 (dk_at dksX7_cuts_1 7 rfl rfl)
theorem dX7_cuts_32 : decode cX7_cuts 32 = .ok (.aload_n 0, 1) := dk_42 (dk_at dksX7_cuts_1 8 rfl rfl)
theorem dX7_cuts_33 : decode cX7_cuts 33 = .ok (.getfield 243, 3) := dk_180 0 243 (dk_at dksX7_cuts_1 9 rfl rfl)
theorem dX7_cuts_36 : decode cX7_cuts 36 = .ok (.aload_n 0, 1) := dk_42 (dk_at dksX7_cuts_1 12 rfl rfl)
theorem dX7_cuts_37 : decode cX7_cuts 37 = .ok (.invokevirtual 85, 3) := dk_182 0 85 (dk_at dksX7_cuts_1 13 rfl rfl)
theorem dX7_cuts_40 : decode cX7_cuts 40 = .ok (.invokestatic 304, 3) := dk_184 1 48 (dk_at dksX7_cuts_1 16 rfl rfl)
theorem dX7_cuts_43 : decode cX7_cuts 43 = .ok (.putfield 243, 3) := dk_181 0 243 (dk_at dksX7_cuts_1 19 rfl rfl)
theorem dX7_cuts_46 : decode cX7_cuts 46 = .ok (.return_, 1) := dk_177 (dk_at dksX7_cuts_1 22 rfl rfl)
abbrev cX7_compacts : ByteArray := prog_22_method_33_code
def yX7_compacts : MethodName := ⟨RX7, "compacts", "()I"⟩
def dkwX7_compacts_5 : List UInt8 := [180, 0, 72, 184, 0, 237, 181, 0, 243, 27, 172]
abbrev dktX7_compacts_5 : List UInt8 := dkwX7_compacts_5 ++ []
def dkwX7_compacts_4 : List UInt8 := [132, 4, 1, 167, 255, 232, 42, 44, 181, 0, 64, 42, 45, 181, 0, 30, 42, 42, 180, 0, 243, 44]
abbrev dktX7_compacts_4 : List UInt8 := dkwX7_compacts_4 ++ dktX7_compacts_5
def dkwX7_compacts_3 : List UInt8 := [54, 4, 21, 4, 42, 182, 0, 85, 163, 0, 21, 45, 42, 21, 4, 182, 0, 91, 182, 0, 204, 54, 5]
abbrev dktX7_compacts_3 : List UInt8 := dkwX7_compacts_3 ++ dktX7_compacts_4
def dkwX7_compacts_2 : List UInt8 := [180, 0, 68, 182, 1, 55, 183, 0, 61, 77, 187, 0, 27, 89, 183, 0, 29, 78, 42, 180, 0, 220, 4, 96]
abbrev dktX7_compacts_2 : List UInt8 := dkwX7_compacts_2 ++ dktX7_compacts_3
def dkwX7_compacts_1 : List UInt8 := [180, 0, 220, 182, 0, 188, 42, 42, 180, 0, 220, 182, 0, 115, 42, 42, 180, 0, 220, 182, 0, 117, 42]
abbrev dktX7_compacts_1 : List UInt8 := dkwX7_compacts_1 ++ dktX7_compacts_2
def dkwX7_compacts_0 : List UInt8 := [42, 180, 0, 220, 42, 180, 0, 64, 180, 0, 72, 100, 60, 187, 0, 56, 89, 42, 180, 0, 220, 42, 42]
abbrev dktX7_compacts_0 : List UInt8 := dkwX7_compacts_0 ++ dktX7_compacts_1
theorem dksX7_compacts_0 : cX7_compacts.data.toList.drop 0 = dktX7_compacts_0 := by decide +kernel
theorem dksX7_compacts_1 : cX7_compacts.data.toList.drop 23 = dktX7_compacts_1 := dk_seg dksX7_compacts_0 23 rfl rfl
theorem dksX7_compacts_2 : cX7_compacts.data.toList.drop 46 = dktX7_compacts_2 := dk_seg dksX7_compacts_1 23 rfl rfl
theorem dksX7_compacts_3 : cX7_compacts.data.toList.drop 70 = dktX7_compacts_3 := dk_seg dksX7_compacts_2 24 rfl rfl
theorem dksX7_compacts_4 : cX7_compacts.data.toList.drop 93 = dktX7_compacts_4 := dk_seg dksX7_compacts_3 23 rfl rfl
theorem dksX7_compacts_5 : cX7_compacts.data.toList.drop 115 = dktX7_compacts_5 := dk_seg dksX7_compacts_4 22 rfl rfl
theorem dX7_compacts_0 : decode cX7_compacts 0 = .ok (.aload_n 0, 1) := dk_42 (dk_at dksX7_compacts_0 0 rfl rfl)
theorem dX7_compacts_1 : decode cX7_compacts 1 = .ok (.getfield 220, 3) := dk_180 0 220 (dk_at dksX7_compacts_0 1 rfl rfl)
theorem dX7_compacts_4 : decode cX7_compacts 4 = .ok (.aload_n 0, 1) := dk_42 (dk_at dksX7_compacts_0 4 rfl rfl)
theorem dX7_compacts_5 : decode cX7_compacts 5 = .ok (.getfield 64, 3) := dk_180 0 64 (dk_at dksX7_compacts_0 5 rfl rfl)
theorem dX7_compacts_8 : decode cX7_compacts 8 = .ok (.getfield 72, 3) := dk_180 0 72 (dk_at dksX7_compacts_0 8 rfl rfl)
theorem dX7_compacts_11 : decode cX7_compacts 11 = .ok (.isub, 1) := dk_100 (dk_at dksX7_compacts_0 11 rfl rfl)
theorem dX7_compacts_12 : decode cX7_compacts 12 = .ok (.istore_n 1, 1) := dk_60 (dk_at dksX7_compacts_0 12 rfl rfl)
theorem dX7_compacts_13 : decode cX7_compacts 13 = .ok (.new 56, 3) := dk_187 0 56 (dk_at dksX7_compacts_0 13 rfl rfl)
theorem dX7_compacts_16 : decode cX7_compacts 16 = .ok (.dup, 1) := dk_89 (dk_at dksX7_compacts_0 16 rfl rfl)
theorem dX7_compacts_17 : decode cX7_compacts 17 = .ok (.aload_n 0, 1) := dk_42 (dk_at dksX7_compacts_0 17 rfl rfl)
theorem dX7_compacts_18 : decode cX7_compacts 18 = .ok (.getfield 220, 3) := dk_180 0 220 (dk_at dksX7_compacts_0 18 rfl rfl)
theorem dX7_compacts_21 : decode cX7_compacts 21 = .ok (.aload_n 0, 1) := dk_42 (dk_at dksX7_compacts_0 21 rfl rfl)
theorem dX7_compacts_22 : decode cX7_compacts 22 = .ok (.aload_n 0, 1) := dk_42 (dk_at dksX7_compacts_0 22 rfl rfl)
theorem dX7_compacts_23 : decode cX7_compacts 23 = .ok (.getfield 220, 3) := dk_180 0 220 (dk_at dksX7_compacts_1 0 rfl rfl)
theorem dX7_compacts_26 : decode cX7_compacts 26 = .ok (.invokevirtual 188, 3) := dk_182 0 188 (dk_at dksX7_compacts_1 3 rfl rfl)
theorem dX7_compacts_29 : decode cX7_compacts 29 = .ok (.aload_n 0, 1) := dk_42 (dk_at dksX7_compacts_1 6 rfl rfl)
theorem dX7_compacts_30 : decode cX7_compacts 30 = .ok (.aload_n 0, 1) := dk_42 (dk_at dksX7_compacts_1 7 rfl rfl)
theorem dX7_compacts_31 : decode cX7_compacts 31 = .ok (.getfield 220, 3) := dk_180 0 220 (dk_at dksX7_compacts_1 8 rfl rfl)
theorem dX7_compacts_34 : decode cX7_compacts 34 = .ok (.invokevirtual 115, 3) := dk_182 0 115 (dk_at dksX7_compacts_1 11 rfl rfl)
theorem dX7_compacts_37 : decode cX7_compacts 37 = .ok (.aload_n 0, 1) := dk_42 (dk_at dksX7_compacts_1 14 rfl rfl)
theorem dX7_compacts_38 : decode cX7_compacts 38 = .ok (.aload_n 0, 1) := dk_42 (dk_at dksX7_compacts_1 15 rfl rfl)
theorem dX7_compacts_39 : decode cX7_compacts 39 = .ok (.getfield 220, 3) := dk_180 0 220 (dk_at dksX7_compacts_1 16 rfl rfl)
theorem dX7_compacts_42 : decode cX7_compacts 42 = .ok (.invokevirtual 117, 3) := dk_182 0 117 (dk_at dksX7_compacts_1 19 rfl rfl)
theorem dX7_compacts_45 : decode cX7_compacts 45 = .ok (.aload_n 0, 1) := dk_42 (dk_at dksX7_compacts_1 22 rfl rfl)
theorem dX7_compacts_46 : decode cX7_compacts 46 = .ok (.getfield 68, 3) := dk_180 0 68 (dk_at dksX7_compacts_2 0 rfl rfl)
theorem dX7_compacts_49 : decode cX7_compacts 49 = .ok (.invokevirtual 311, 3) := dk_182 1 55 (dk_at dksX7_compacts_2 3 rfl rfl)
theorem dX7_compacts_52 : decode cX7_compacts 52 = .ok (.invokespecial 61, 3) := dk_183 0 61 (dk_at dksX7_compacts_2 6 rfl rfl)
theorem dX7_compacts_55 : decode cX7_compacts 55 = .ok (.astore_n 2, 1) := dk_77 (dk_at dksX7_compacts_2 9 rfl rfl)
theorem dX7_compacts_56 : decode cX7_compacts 56 = .ok (.new 27, 3) := dk_187 0 27 (dk_at dksX7_compacts_2 10 rfl rfl)
theorem dX7_compacts_59 : decode cX7_compacts 59 = .ok (.dup, 1) := dk_89 (dk_at dksX7_compacts_2 13 rfl rfl)
theorem dX7_compacts_60 : decode cX7_compacts 60 = .ok (.invokespecial 29, 3) := dk_183 0 29 (dk_at dksX7_compacts_2 14 rfl rfl)
theorem dX7_compacts_63 : decode cX7_compacts 63 = .ok (.astore_n 3, 1) := dk_78 (dk_at dksX7_compacts_2 17 rfl rfl)
theorem dX7_compacts_64 : decode cX7_compacts 64 = .ok (.aload_n 0, 1) := dk_42 (dk_at dksX7_compacts_2 18 rfl rfl)
theorem dX7_compacts_65 : decode cX7_compacts 65 = .ok (.getfield 220, 3) := dk_180 0 220 (dk_at dksX7_compacts_2 19 rfl rfl)
theorem dX7_compacts_68 : decode cX7_compacts 68 = .ok (.iconst 1, 1) := dk_4 (dk_at dksX7_compacts_2 22 rfl rfl)
theorem dX7_compacts_69 : decode cX7_compacts 69 = .ok (.iadd, 1) := dk_96 (dk_at dksX7_compacts_2 23 rfl rfl)
theorem dX7_compacts_70 : decode cX7_compacts 70 = .ok (.istore 4, 2) := dk_54 4 (dk_at dksX7_compacts_3 0 rfl rfl)
theorem dX7_compacts_72 : decode cX7_compacts 72 = .ok (.iload 4, 2) := dk_21 4 (dk_at dksX7_compacts_3 2 rfl rfl)
theorem dX7_compacts_74 : decode cX7_compacts 74 = .ok (.aload_n 0, 1) := dk_42 (dk_at dksX7_compacts_3 4 rfl rfl)
theorem dX7_compacts_75 : decode cX7_compacts 75 = .ok (.invokevirtual 85, 3) := dk_182 0 85 (dk_at dksX7_compacts_3 5 rfl rfl)
theorem dX7_compacts_78 : decode cX7_compacts 78 = .ok (.if_icmp .gt 21, 3) := dk_163 0 21 (dk_at dksX7_compacts_3 8 rfl rfl)
theorem dX7_compacts_81 : decode cX7_compacts 81 = .ok (.aload_n 3, 1) := dk_45 (dk_at dksX7_compacts_3 11 rfl rfl)
theorem dX7_compacts_82 : decode cX7_compacts 82 = .ok (.aload_n 0, 1) := dk_42 (dk_at dksX7_compacts_3 12 rfl rfl)
theorem dX7_compacts_83 : decode cX7_compacts 83 = .ok (.iload 4, 2) := dk_21 4 (dk_at dksX7_compacts_3 13 rfl rfl)
theorem dX7_compacts_85 : decode cX7_compacts 85 = .ok (.invokevirtual 91, 3) := dk_182 0 91 (dk_at dksX7_compacts_3 15 rfl rfl)
theorem dX7_compacts_88 : decode cX7_compacts 88 = .ok (.invokevirtual 204, 3) := dk_182 0 204 (dk_at dksX7_compacts_3 18 rfl rfl)
theorem dX7_compacts_91 : decode cX7_compacts 91 = .ok (.istore 5, 2) := dk_54 5 (dk_at dksX7_compacts_3 21 rfl rfl)
theorem dX7_compacts_93 : decode cX7_compacts 93 = .ok (.iinc 4 1, 3) := dk_132 4 1 (dk_at dksX7_compacts_4 0 rfl rfl)
theorem dX7_compacts_96 : decode cX7_compacts 96 = .ok (.goto (-24), 3) := dk_167 255 232 (dk_at dksX7_compacts_4 3 rfl rfl)
theorem dX7_compacts_99 : decode cX7_compacts 99 = .ok (.aload_n 0, 1) := dk_42 (dk_at dksX7_compacts_4 6 rfl rfl)
theorem dX7_compacts_100 : decode cX7_compacts 100 = .ok (.aload_n 2, 1) := dk_44 (dk_at dksX7_compacts_4 7 rfl rfl)
theorem dX7_compacts_101 : decode cX7_compacts 101 = .ok (.putfield 64, 3) := dk_181 0 64 (dk_at dksX7_compacts_4 8 rfl rfl)
theorem dX7_compacts_104 : decode cX7_compacts 104 = .ok (.aload_n 0, 1) := dk_42 (dk_at dksX7_compacts_4 11 rfl rfl)
theorem dX7_compacts_105 : decode cX7_compacts 105 = .ok (.aload_n 3, 1) := dk_45 (dk_at dksX7_compacts_4 12 rfl rfl)
theorem dX7_compacts_106 : decode cX7_compacts 106 = .ok (.putfield 30, 3) := dk_181 0 30 (dk_at dksX7_compacts_4 13 rfl rfl)
theorem dX7_compacts_109 : decode cX7_compacts 109 = .ok (.aload_n 0, 1) := dk_42 (dk_at dksX7_compacts_4 16 rfl rfl)
theorem dX7_compacts_110 : decode cX7_compacts 110 = .ok (.aload_n 0, 1) := dk_42 (dk_at dksX7_compacts_4 17 rfl rfl)
theorem dX7_compacts_111 : decode cX7_compacts 111 = .ok (.getfield 243, 3) := dk_180 0 243 (dk_at dksX7_compacts_4 18 rfl rfl)
theorem dX7_compacts_114 : decode cX7_compacts 114 = .ok (.aload_n 2, 1) := dk_44 (dk_at dksX7_compacts_4 21 rfl rfl)
theorem dX7_compacts_115 : decode cX7_compacts 115 = .ok (.getfield 72, 3) := dk_180 0 72 (dk_at dksX7_compacts_5 0 rfl rfl)
theorem dX7_compacts_118 : decode cX7_compacts 118 = .ok (.invokestatic 237, 3) := dk_184 0 237 (dk_at dksX7_compacts_5 3 rfl rfl)
theorem dX7_compacts_121 : decode cX7_compacts 121 = .ok (.putfield 243, 3) := dk_181 0 243 (dk_at dksX7_compacts_5 6 rfl rfl)
theorem dX7_compacts_124 : decode cX7_compacts 124 = .ok (.iload_n 1, 1) := dk_27 (dk_at dksX7_compacts_5 9 rfl rfl)
theorem dX7_compacts_125 : decode cX7_compacts 125 = .ok (.ireturn, 1) := dk_172 (dk_at dksX7_compacts_5 10 rfl rfl)
abbrev cX7_has : ByteArray := prog_22_method_4_code
def yX7_has : MethodName := ⟨RX7, "has", "(I)Z"⟩
def dkwX7_has_1 : List UInt8 := [172]
abbrev dktX7_has_1 : List UInt8 := dkwX7_has_1 ++ []
def dkwX7_has_0 : List UInt8 := [27, 42, 180, 0, 64, 180, 0, 72, 164, 0, 15, 27, 42, 182, 0, 85, 163, 0, 7, 4, 167, 0, 4, 3]
abbrev dktX7_has_0 : List UInt8 := dkwX7_has_0 ++ dktX7_has_1
theorem dksX7_has_0 : cX7_has.data.toList.drop 0 = dktX7_has_0 := by decide +kernel
theorem dksX7_has_1 : cX7_has.data.toList.drop 24 = dktX7_has_1 := dk_seg dksX7_has_0 24 rfl rfl
theorem dX7_has_0 : decode cX7_has 0 = .ok (.iload_n 1, 1) := dk_27 (dk_at dksX7_has_0 0 rfl rfl)
theorem dX7_has_1 : decode cX7_has 1 = .ok (.aload_n 0, 1) := dk_42 (dk_at dksX7_has_0 1 rfl rfl)
theorem dX7_has_2 : decode cX7_has 2 = .ok (.getfield 64, 3) := dk_180 0 64 (dk_at dksX7_has_0 2 rfl rfl)
theorem dX7_has_5 : decode cX7_has 5 = .ok (.getfield 72, 3) := dk_180 0 72 (dk_at dksX7_has_0 5 rfl rfl)
theorem dX7_has_8 : decode cX7_has 8 = .ok (.if_icmp .le 15, 3) := dk_164 0 15 (dk_at dksX7_has_0 8 rfl rfl)
theorem dX7_has_11 : decode cX7_has 11 = .ok (.iload_n 1, 1) := dk_27 (dk_at dksX7_has_0 11 rfl rfl)
theorem dX7_has_12 : decode cX7_has 12 = .ok (.aload_n 0, 1) := dk_42 (dk_at dksX7_has_0 12 rfl rfl)
theorem dX7_has_13 : decode cX7_has 13 = .ok (.invokevirtual 85, 3) := dk_182 0 85 (dk_at dksX7_has_0 13 rfl rfl)
theorem dX7_has_16 : decode cX7_has 16 = .ok (.if_icmp .gt 7, 3) := dk_163 0 7 (dk_at dksX7_has_0 16 rfl rfl)
theorem dX7_has_19 : decode cX7_has 19 = .ok (.iconst 1, 1) := dk_4 (dk_at dksX7_has_0 19 rfl rfl)
theorem dX7_has_20 : decode cX7_has 20 = .ok (.goto 4, 3) := dk_167 0 4 (dk_at dksX7_has_0 20 rfl rfl)
theorem dX7_has_23 : decode cX7_has 23 = .ok (.iconst 0, 1) := dk_3 (dk_at dksX7_has_0 23 rfl rfl)
theorem dX7_has_24 : decode cX7_has 24 = .ok (.ireturn, 1) := dk_172 (dk_at dksX7_has_1 0 rfl rfl)
abbrev cX7_handles : ByteArray := prog_22_method_24_code
def yX7_handles : MethodName := ⟨RX7, "handles", "(LQuorumAlmanacModel$Message;)V"⟩
def dkwX7_handles_7 : List UInt8 := [181, 0, 184, 44, 2, 181, 0, 216, 167, 0, 8, 42, 43, 182, 1, 29, 177]
abbrev dktX7_handles_7 : List UInt8 := dkwX7_handles_7 ++ []
def dkwX7_handles_6 : List UInt8 := [180, 0, 3, 16, 107, 42, 180, 0, 53, 43, 180, 1, 20, 182, 0, 180, 77, 44, 42, 180, 0, 126]
abbrev dktX7_handles_6 : List UInt8 := dkwX7_handles_6 ++ dktX7_handles_7
def dkwX7_handles_5 : List UInt8 := [180, 0, 184, 42, 180, 0, 126, 162, 0, 50, 42, 180, 0, 3, 89, 180, 1, 26, 4, 96, 181, 1, 26, 42]
abbrev dktX7_handles_5 : List UInt8 := dkwX7_handles_5 ++ dktX7_handles_6
def dkwX7_handles_4 : List UInt8 := [182, 0, 194, 167, 0, 83, 43, 180, 1, 9, 16, 107, 160, 0, 11, 42, 43, 182, 1, 23, 167, 0, 66, 43]
abbrev dktX7_handles_4 : List UInt8 := dkwX7_handles_4 ++ dktX7_handles_5
def dkwX7_handles_3 : List UInt8 := [180, 1, 17, 153, 0, 105, 42, 89, 180, 0, 177, 4, 43, 180, 1, 20, 120, 128, 181, 0, 177, 42]
abbrev dktX7_handles_3 : List UInt8 := dkwX7_handles_3 ++ dktX7_handles_4
def dkwX7_handles_2 : List UInt8 := [167, 0, 132, 42, 180, 0, 19, 16, 99, 160, 0, 123, 43, 180, 0, 184, 42, 180, 0, 126, 160, 0, 112, 43]
abbrev dktX7_handles_2 : List UInt8 := dkwX7_handles_2 ++ dktX7_handles_3
def dkwX7_handles_1 : List UInt8 := [160, 0, 74, 43, 180, 0, 184, 42, 180, 0, 126, 164, 0, 14, 42, 43, 180, 0, 184, 182, 1, 14]
abbrev dktX7_handles_1 : List UInt8 := dkwX7_handles_1 ++ dktX7_handles_2
def dkwX7_handles_0 : List UInt8 := [43, 180, 1, 9, 16, 118, 160, 0, 11, 42, 43, 182, 1, 10, 167, 0, 163, 43, 180, 1, 9, 16, 121]
abbrev dktX7_handles_0 : List UInt8 := dkwX7_handles_0 ++ dktX7_handles_1
theorem dksX7_handles_0 : cX7_handles.data.toList.drop 0 = dktX7_handles_0 := by decide +kernel
theorem dksX7_handles_1 : cX7_handles.data.toList.drop 23 = dktX7_handles_1 := dk_seg dksX7_handles_0 23 rfl rfl
theorem dksX7_handles_2 : cX7_handles.data.toList.drop 45 = dktX7_handles_2 := dk_seg dksX7_handles_1 22 rfl rfl
theorem dksX7_handles_3 : cX7_handles.data.toList.drop 69 = dktX7_handles_3 := dk_seg dksX7_handles_2 24 rfl rfl
theorem dksX7_handles_4 : cX7_handles.data.toList.drop 91 = dktX7_handles_4 := dk_seg dksX7_handles_3 22 rfl rfl
theorem dksX7_handles_5 : cX7_handles.data.toList.drop 115 = dktX7_handles_5 := dk_seg dksX7_handles_4 24 rfl rfl
theorem dksX7_handles_6 : cX7_handles.data.toList.drop 139 = dktX7_handles_6 := dk_seg dksX7_handles_5 24 rfl rfl
theorem dksX7_handles_7 : cX7_handles.data.toList.drop 161 = dktX7_handles_7 := dk_seg dksX7_handles_6 22 rfl rfl
theorem dX7_handles_0 : decode cX7_handles 0 = .ok (.aload_n 1, 1) := dk_43 (dk_at dksX7_handles_0 0 rfl rfl)
theorem dX7_handles_1 : decode cX7_handles 1 = .ok (.getfield 265, 3) := dk_180 1 9 (dk_at dksX7_handles_0 1 rfl rfl)
theorem dX7_handles_4 : decode cX7_handles 4 = .ok (.bipush 118, 2) := dk_16 118 (dk_at dksX7_handles_0 4 rfl rfl)
theorem dX7_handles_6 : decode cX7_handles 6 = .ok (.if_icmp .ne 11, 3) := dk_160 0 11 (dk_at dksX7_handles_0 6 rfl rfl)
theorem dX7_handles_9 : decode cX7_handles 9 = .ok (.aload_n 0, 1) := dk_42 (dk_at dksX7_handles_0 9 rfl rfl)
theorem dX7_handles_10 : decode cX7_handles 10 = .ok (.aload_n 1, 1) := dk_43 (dk_at dksX7_handles_0 10 rfl rfl)
theorem dX7_handles_11 : decode cX7_handles 11 = .ok (.invokevirtual 266, 3) := dk_182 1 10 (dk_at dksX7_handles_0 11 rfl rfl)
theorem dX7_handles_14 : decode cX7_handles 14 = .ok (.goto 163, 3) := dk_167 0 163 (dk_at dksX7_handles_0 14 rfl rfl)
theorem dX7_handles_17 : decode cX7_handles 17 = .ok (.aload_n 1, 1) := dk_43 (dk_at dksX7_handles_0 17 rfl rfl)
theorem dX7_handles_18 : decode cX7_handles 18 = .ok (.getfield 265, 3) := dk_180 1 9 (dk_at dksX7_handles_0 18 rfl rfl)
theorem dX7_handles_21 : decode cX7_handles 21 = .ok (.bipush 121, 2) := dk_16 121 (dk_at dksX7_handles_0 21 rfl rfl)
theorem dX7_handles_23 : decode cX7_handles 23 = .ok (.if_icmp .ne 74, 3) := dk_160 0 74 (dk_at dksX7_handles_1 0 rfl rfl)
theorem dX7_handles_26 : decode cX7_handles 26 = .ok (.aload_n 1, 1) := dk_43 (dk_at dksX7_handles_1 3 rfl rfl)
theorem dX7_handles_27 : decode cX7_handles 27 = .ok (.getfield 184, 3) := dk_180 0 184 (dk_at dksX7_handles_1 4 rfl rfl)
theorem dX7_handles_30 : decode cX7_handles 30 = .ok (.aload_n 0, 1) := dk_42 (dk_at dksX7_handles_1 7 rfl rfl)
theorem dX7_handles_31 : decode cX7_handles 31 = .ok (.getfield 126, 3) := dk_180 0 126 (dk_at dksX7_handles_1 8 rfl rfl)
theorem dX7_handles_34 : decode cX7_handles 34 = .ok (.if_icmp .le 14, 3) := dk_164 0 14 (dk_at dksX7_handles_1 11 rfl rfl)
theorem dX7_handles_37 : decode cX7_handles 37 = .ok (.aload_n 0, 1) := dk_42 (dk_at dksX7_handles_1 14 rfl rfl)
theorem dX7_handles_38 : decode cX7_handles 38 = .ok (.aload_n 1, 1) := dk_43 (dk_at dksX7_handles_1 15 rfl rfl)
theorem dX7_handles_39 : decode cX7_handles 39 = .ok (.getfield 184, 3) := dk_180 0 184 (dk_at dksX7_handles_1 16 rfl rfl)
theorem dX7_handles_42 : decode cX7_handles 42 = .ok (.invokevirtual 270, 3) := dk_182 1 14 (dk_at dksX7_handles_1 19 rfl rfl)
theorem dX7_handles_45 : decode cX7_handles 45 = .ok (.goto 132, 3) := dk_167 0 132 (dk_at dksX7_handles_2 0 rfl rfl)
theorem dX7_handles_48 : decode cX7_handles 48 = .ok (.aload_n 0, 1) := dk_42 (dk_at dksX7_handles_2 3 rfl rfl)
theorem dX7_handles_49 : decode cX7_handles 49 = .ok (.getfield 19, 3) := dk_180 0 19 (dk_at dksX7_handles_2 4 rfl rfl)
theorem dX7_handles_52 : decode cX7_handles 52 = .ok (.bipush 99, 2) := dk_16 99 (dk_at dksX7_handles_2 7 rfl rfl)
theorem dX7_handles_54 : decode cX7_handles 54 = .ok (.if_icmp .ne 123, 3) := dk_160 0 123 (dk_at dksX7_handles_2 9 rfl rfl)
theorem dX7_handles_57 : decode cX7_handles 57 = .ok (.aload_n 1, 1) := dk_43 (dk_at dksX7_handles_2 12 rfl rfl)
theorem dX7_handles_58 : decode cX7_handles 58 = .ok (.getfield 184, 3) := dk_180 0 184 (dk_at dksX7_handles_2 13 rfl rfl)
theorem dX7_handles_61 : decode cX7_handles 61 = .ok (.aload_n 0, 1) := dk_42 (dk_at dksX7_handles_2 16 rfl rfl)
theorem dX7_handles_62 : decode cX7_handles 62 = .ok (.getfield 126, 3) := dk_180 0 126 (dk_at dksX7_handles_2 17 rfl rfl)
theorem dX7_handles_65 : decode cX7_handles 65 = .ok (.if_icmp .ne 112, 3) := dk_160 0 112 (dk_at dksX7_handles_2 20 rfl rfl)
theorem dX7_handles_68 : decode cX7_handles 68 = .ok (.aload_n 1, 1) := dk_43 (dk_at dksX7_handles_2 23 rfl rfl)
theorem dX7_handles_69 : decode cX7_handles 69 = .ok (.getfield 273, 3) := dk_180 1 17 (dk_at dksX7_handles_3 0 rfl rfl)
theorem dX7_handles_72 : decode cX7_handles 72 = .ok (.ifCond .eq 105, 3) := dk_153 0 105 (dk_at dksX7_handles_3 3 rfl rfl)
theorem dX7_handles_75 : decode cX7_handles 75 = .ok (.aload_n 0, 1) := dk_42 (dk_at dksX7_handles_3 6 rfl rfl)
theorem dX7_handles_76 : decode cX7_handles 76 = .ok (.dup, 1) := dk_89 (dk_at dksX7_handles_3 7 rfl rfl)
theorem dX7_handles_77 : decode cX7_handles 77 = .ok (.getfield 177, 3) := dk_180 0 177 (dk_at dksX7_handles_3 8 rfl rfl)
theorem dX7_handles_80 : decode cX7_handles 80 = .ok (.iconst 1, 1) := dk_4 (dk_at dksX7_handles_3 11 rfl rfl)
theorem dX7_handles_81 : decode cX7_handles 81 = .ok (.aload_n 1, 1) := dk_43 (dk_at dksX7_handles_3 12 rfl rfl)
theorem dX7_handles_82 : decode cX7_handles 82 = .ok (.getfield 276, 3) := dk_180 1 20 (dk_at dksX7_handles_3 13 rfl rfl)
theorem dX7_handles_85 : decode cX7_handles 85 = .ok (.ishl, 1) := dk_120 (dk_at dksX7_handles_3 16 rfl rfl)
theorem dX7_handles_86 : decode cX7_handles 86 = .ok (.ior, 1) := dk_128 (dk_at dksX7_handles_3 17 rfl rfl)
theorem dX7_handles_87 : decode cX7_handles 87 = .ok (.putfield 177, 3) := dk_181 0 177 (dk_at dksX7_handles_3 18 rfl rfl)
theorem dX7_handles_90 : decode cX7_handles 90 = .ok (.aload_n 0, 1) := dk_42 (dk_at dksX7_handles_3 21 rfl rfl)
theorem dX7_handles_91 : decode cX7_handles 91 = .ok (.invokevirtual 194, 3) := dk_182 0 194 (dk_at dksX7_handles_4 0 rfl rfl)
theorem dX7_handles_94 : decode cX7_handles 94 = .ok (.goto 83, 3) := dk_167 0 83 (dk_at dksX7_handles_4 3 rfl rfl)
theorem dX7_handles_97 : decode cX7_handles 97 = .ok (.aload_n 1, 1) := dk_43 (dk_at dksX7_handles_4 6 rfl rfl)
theorem dX7_handles_98 : decode cX7_handles 98 = .ok (.getfield 265, 3) := dk_180 1 9 (dk_at dksX7_handles_4 7 rfl rfl)
theorem dX7_handles_101 : decode cX7_handles 101 = .ok (.bipush 107, 2) := dk_16 107 (dk_at dksX7_handles_4 10 rfl rfl)
theorem dX7_handles_103 : decode cX7_handles 103 = .ok (.if_icmp .ne 11, 3) := dk_160 0 11 (dk_at dksX7_handles_4 12 rfl rfl)
theorem dX7_handles_106 : decode cX7_handles 106 = .ok (.aload_n 0, 1) := dk_42 (dk_at dksX7_handles_4 15 rfl rfl)
theorem dX7_handles_107 : decode cX7_handles 107 = .ok (.aload_n 1, 1) := dk_43 (dk_at dksX7_handles_4 16 rfl rfl)
theorem dX7_handles_108 : decode cX7_handles 108 = .ok (.invokevirtual 279, 3) := dk_182 1 23 (dk_at dksX7_handles_4 17 rfl rfl)
theorem dX7_handles_111 : decode cX7_handles 111 = .ok (.goto 66, 3) := dk_167 0 66 (dk_at dksX7_handles_4 20 rfl rfl)
theorem dX7_handles_114 : decode cX7_handles 114 = .ok (.aload_n 1, 1) := dk_43 (dk_at dksX7_handles_4 23 rfl rfl)
theorem dX7_handles_115 : decode cX7_handles 115 = .ok (.getfield 184, 3) := dk_180 0 184 (dk_at dksX7_handles_5 0 rfl rfl)
theorem dX7_handles_118 : decode cX7_handles 118 = .ok (.aload_n 0, 1) := dk_42 (dk_at dksX7_handles_5 3 rfl rfl)
theorem dX7_handles_119 : decode cX7_handles 119 = .ok (.getfield 126, 3) := dk_180 0 126 (dk_at dksX7_handles_5 4 rfl rfl)
theorem dX7_handles_122 : decode cX7_handles 122 = .ok (.if_icmp .ge 50, 3) := dk_162 0 50 (dk_at dksX7_handles_5 7 rfl rfl)
theorem dX7_handles_125 : decode cX7_handles 125 = .ok (.aload_n 0, 1) := dk_42 (dk_at dksX7_handles_5 10 rfl rfl)
theorem dX7_handles_126 : decode cX7_handles 126 = .ok (.getfield 3, 3) := dk_180 0 3 (dk_at dksX7_handles_5 11 rfl rfl)
theorem dX7_handles_129 : decode cX7_handles 129 = .ok (.dup, 1) := dk_89 (dk_at dksX7_handles_5 14 rfl rfl)
theorem dX7_handles_130 : decode cX7_handles 130 = .ok (.getfield 282, 3) := dk_180 1 26 (dk_at dksX7_handles_5 15 rfl rfl)
theorem dX7_handles_133 : decode cX7_handles 133 = .ok (.iconst 1, 1) := dk_4 (dk_at dksX7_handles_5 18 rfl rfl)
theorem dX7_handles_134 : decode cX7_handles 134 = .ok (.iadd, 1) := dk_96 (dk_at dksX7_handles_5 19 rfl rfl)
theorem dX7_handles_135 : decode cX7_handles 135 = .ok (.putfield 282, 3) := dk_181 1 26 (dk_at dksX7_handles_5 20 rfl rfl)
theorem dX7_handles_138 : decode cX7_handles 138 = .ok (.aload_n 0, 1) := dk_42 (dk_at dksX7_handles_5 23 rfl rfl)
theorem dX7_handles_139 : decode cX7_handles 139 = .ok (.getfield 3, 3) := dk_180 0 3 (dk_at dksX7_handles_6 0 rfl rfl)
theorem dX7_handles_142 : decode cX7_handles 142 = .ok (.bipush 107, 2) := dk_16 107 (dk_at dksX7_handles_6 3 rfl rfl)
theorem dX7_handles_144 : decode cX7_handles 144 = .ok (.aload_n 0, 1) := dk_42 (dk_at dksX7_handles_6 5 rfl rfl)
theorem dX7_handles_145 : decode cX7_handles 145 = .ok (.getfield 53, 3) := dk_180 0 53 (dk_at dksX7_handles_6 6 rfl rfl)
theorem dX7_handles_148 : decode cX7_handles 148 = .ok (.aload_n 1, 1) := dk_43 (dk_at dksX7_handles_6 9 rfl rfl)
theorem dX7_handles_149 : decode cX7_handles 149 = .ok (.getfield 276, 3) := dk_180 1 20 (dk_at dksX7_handles_6 10 rfl rfl)
theorem dX7_handles_152 : decode cX7_handles 152 = .ok (.invokevirtual 180, 3) := dk_182 0 180 (dk_at dksX7_handles_6 13 rfl rfl)
theorem dX7_handles_155 : decode cX7_handles 155 = .ok (.astore_n 2, 1) := dk_77 (dk_at dksX7_handles_6 16 rfl rfl)
theorem dX7_handles_156 : decode cX7_handles 156 = .ok (.aload_n 2, 1) := dk_44 (dk_at dksX7_handles_6 17 rfl rfl)
theorem dX7_handles_157 : decode cX7_handles 157 = .ok (.aload_n 0, 1) := dk_42 (dk_at dksX7_handles_6 18 rfl rfl)
theorem dX7_handles_158 : decode cX7_handles 158 = .ok (.getfield 126, 3) := dk_180 0 126 (dk_at dksX7_handles_6 19 rfl rfl)
theorem dX7_handles_161 : decode cX7_handles 161 = .ok (.putfield 184, 3) := dk_181 0 184 (dk_at dksX7_handles_7 0 rfl rfl)
theorem dX7_handles_164 : decode cX7_handles 164 = .ok (.aload_n 2, 1) := dk_44 (dk_at dksX7_handles_7 3 rfl rfl)
theorem dX7_handles_165 : decode cX7_handles 165 = .ok (.iconst (-1), 1) := dk_2 (dk_at dksX7_handles_7 4 rfl rfl)
theorem dX7_handles_166 : decode cX7_handles 166 = .ok (.putfield 216, 3) := dk_181 0 216 (dk_at dksX7_handles_7 5 rfl rfl)
theorem dX7_handles_169 : decode cX7_handles 169 = .ok (.goto 8, 3) := dk_167 0 8 (dk_at dksX7_handles_7 8 rfl rfl)
theorem dX7_handles_172 : decode cX7_handles 172 = .ok (.aload_n 0, 1) := dk_42 (dk_at dksX7_handles_7 11 rfl rfl)
theorem dX7_handles_173 : decode cX7_handles 173 = .ok (.aload_n 1, 1) := dk_43 (dk_at dksX7_handles_7 12 rfl rfl)
theorem dX7_handles_174 : decode cX7_handles 174 = .ok (.invokevirtual 285, 3) := dk_182 1 29 (dk_at dksX7_handles_7 13 rfl rfl)
theorem dX7_handles_177 : decode cX7_handles 177 = .ok (.return_, 1) := dk_177 (dk_at dksX7_handles_7 16 rfl rfl)
abbrev cX7_isAsked : ByteArray := prog_22_method_25_code
def yX7_isAsked : MethodName := ⟨RX7, "isAsked", "(LQuorumAlmanacModel$Message;)V"⟩
def dkwX7_isAsked_7 : List UInt8 := [42, 180, 0, 126, 181, 0, 184, 25, 5, 21, 4, 181, 1, 17, 177]
abbrev dktX7_isAsked_7 : List UInt8 := dkwX7_isAsked_7 ++ []
def dkwX7_isAsked_6 : List UInt8 := [181, 0, 174, 42, 180, 0, 3, 16, 121, 42, 180, 0, 53, 43, 180, 1, 20, 182, 0, 180, 58, 5, 25, 5]
abbrev dktX7_isAsked_6 : List UInt8 := dkwX7_isAsked_6 ++ dktX7_isAsked_7
def dkwX7_isAsked_5 : List UInt8 := [167, 0, 4, 3, 54, 4, 21, 4, 153, 0, 19, 42, 43, 180, 1, 20, 181, 0, 15, 42, 42, 180, 0, 160]
abbrev dktX7_isAsked_5 : List UInt8 := dkwX7_isAsked_5 ++ dktX7_isAsked_6
def dkwX7_isAsked_4 : List UInt8 := [42, 180, 0, 15, 2, 159, 0, 14, 42, 180, 0, 15, 43, 180, 1, 20, 160, 0, 11, 29, 154, 0, 7, 4]
abbrev dktX7_isAsked_4 : List UInt8 := dkwX7_isAsked_4 ++ dktX7_isAsked_5
def dkwX7_isAsked_3 : List UInt8 := [42, 182, 0, 85, 162, 0, 7, 4, 167, 0, 4, 3, 62, 43, 180, 0, 184, 42, 180, 0, 126, 160, 0, 30]
abbrev dktX7_isAsked_3 : List UInt8 := dkwX7_isAsked_3 ++ dktX7_isAsked_4
def dkwX7_isAsked_2 : List UInt8 := [182, 0, 188, 61, 43, 180, 0, 191, 28, 161, 0, 22, 43, 180, 0, 191, 28, 160, 0, 18, 43, 180, 0, 187]
abbrev dktX7_isAsked_2 : List UInt8 := dkwX7_isAsked_2 ++ dktX7_isAsked_3
def dkwX7_isAsked_1 : List UInt8 := [180, 0, 184, 42, 180, 0, 126, 164, 0, 11, 42, 43, 180, 0, 184, 182, 1, 14, 42, 42, 182, 0, 85]
abbrev dktX7_isAsked_1 : List UInt8 := dkwX7_isAsked_1 ++ dktX7_isAsked_2
def dkwX7_isAsked_0 : List UInt8 := [42, 180, 0, 160, 42, 180, 0, 34, 100, 16, 10, 161, 0, 10, 42, 182, 1, 32, 153, 0, 4, 177, 43]
abbrev dktX7_isAsked_0 : List UInt8 := dkwX7_isAsked_0 ++ dktX7_isAsked_1
theorem dksX7_isAsked_0 : cX7_isAsked.data.toList.drop 0 = dktX7_isAsked_0 := by decide +kernel
theorem dksX7_isAsked_1 : cX7_isAsked.data.toList.drop 23 = dktX7_isAsked_1 := dk_seg dksX7_isAsked_0 23 rfl rfl
theorem dksX7_isAsked_2 : cX7_isAsked.data.toList.drop 46 = dktX7_isAsked_2 := dk_seg dksX7_isAsked_1 23 rfl rfl
theorem dksX7_isAsked_3 : cX7_isAsked.data.toList.drop 70 = dktX7_isAsked_3 := dk_seg dksX7_isAsked_2 24 rfl rfl
theorem dksX7_isAsked_4 : cX7_isAsked.data.toList.drop 94 = dktX7_isAsked_4 := dk_seg dksX7_isAsked_3 24 rfl rfl
theorem dksX7_isAsked_5 : cX7_isAsked.data.toList.drop 118 = dktX7_isAsked_5 := dk_seg dksX7_isAsked_4 24 rfl rfl
theorem dksX7_isAsked_6 : cX7_isAsked.data.toList.drop 142 = dktX7_isAsked_6 := dk_seg dksX7_isAsked_5 24 rfl rfl
theorem dksX7_isAsked_7 : cX7_isAsked.data.toList.drop 166 = dktX7_isAsked_7 := dk_seg dksX7_isAsked_6 24 rfl rfl
theorem dX7_isAsked_0 : decode cX7_isAsked 0 = .ok (.aload_n 0, 1) := dk_42 (dk_at dksX7_isAsked_0 0 rfl rfl)
theorem dX7_isAsked_1 : decode cX7_isAsked 1 = .ok (.getfield 160, 3) := dk_180 0 160 (dk_at dksX7_isAsked_0 1 rfl rfl)
theorem dX7_isAsked_4 : decode cX7_isAsked 4 = .ok (.aload_n 0, 1) := dk_42 (dk_at dksX7_isAsked_0 4 rfl rfl)
theorem dX7_isAsked_5 : decode cX7_isAsked 5 = .ok (.getfield 34, 3) := dk_180 0 34 (dk_at dksX7_isAsked_0 5 rfl rfl)
theorem dX7_isAsked_8 : decode cX7_isAsked 8 = .ok (.isub, 1) := dk_100 (dk_at dksX7_isAsked_0 8 rfl rfl)
theorem dX7_isAsked_9 : decode cX7_isAsked 9 = .ok (.bipush 10, 2) := dk_16 10 (dk_at dksX7_isAsked_0 9 rfl rfl)
theorem dX7_isAsked_11 : decode cX7_isAsked 11 = .ok (.if_icmp .lt 10, 3) := dk_161 0 10 (dk_at dksX7_isAsked_0 11 rfl rfl)
theorem dX7_isAsked_14 : decode cX7_isAsked 14 = .ok (.aload_n 0, 1) := dk_42 (dk_at dksX7_isAsked_0 14 rfl rfl)
theorem dX7_isAsked_15 : decode cX7_isAsked 15 = .ok (.invokevirtual 288, 3) := dk_182 1 32 (dk_at dksX7_isAsked_0 15 rfl rfl)
theorem dX7_isAsked_18 : decode cX7_isAsked 18 = .ok (.ifCond .eq 4, 3) := dk_153 0 4 (dk_at dksX7_isAsked_0 18 rfl rfl)
theorem dX7_isAsked_21 : decode cX7_isAsked 21 = .ok (.return_, 1) := dk_177 (dk_at dksX7_isAsked_0 21 rfl rfl)
theorem dX7_isAsked_22 : decode cX7_isAsked 22 = .ok (.aload_n 1, 1) := dk_43 (dk_at dksX7_isAsked_0 22 rfl rfl)
theorem dX7_isAsked_23 : decode cX7_isAsked 23 = .ok (.getfield 184, 3) := dk_180 0 184 (dk_at dksX7_isAsked_1 0 rfl rfl)
theorem dX7_isAsked_26 : decode cX7_isAsked 26 = .ok (.aload_n 0, 1) := dk_42 (dk_at dksX7_isAsked_1 3 rfl rfl)
theorem dX7_isAsked_27 : decode cX7_isAsked 27 = .ok (.getfield 126, 3) := dk_180 0 126 (dk_at dksX7_isAsked_1 4 rfl rfl)
theorem dX7_isAsked_30 : decode cX7_isAsked 30 = .ok (.if_icmp .le 11, 3) := dk_164 0 11 (dk_at dksX7_isAsked_1 7 rfl rfl)
theorem dX7_isAsked_33 : decode cX7_isAsked 33 = .ok (.aload_n 0, 1) := dk_42 (dk_at dksX7_isAsked_1 10 rfl rfl)
theorem dX7_isAsked_34 : decode cX7_isAsked 34 = .ok (.aload_n 1, 1) := dk_43 (dk_at dksX7_isAsked_1 11 rfl rfl)
theorem dX7_isAsked_35 : decode cX7_isAsked 35 = .ok (.getfield 184, 3) := dk_180 0 184 (dk_at dksX7_isAsked_1 12 rfl rfl)
theorem dX7_isAsked_38 : decode cX7_isAsked 38 = .ok (.invokevirtual 270, 3) := dk_182 1 14 (dk_at dksX7_isAsked_1 15 rfl rfl)
theorem dX7_isAsked_41 : decode cX7_isAsked 41 = .ok (.aload_n 0, 1) := dk_42 (dk_at dksX7_isAsked_1 18 rfl rfl)
theorem dX7_isAsked_42 : decode cX7_isAsked 42 = .ok (.aload_n 0, 1) := dk_42 (dk_at dksX7_isAsked_1 19 rfl rfl)
theorem dX7_isAsked_43 : decode cX7_isAsked 43 = .ok (.invokevirtual 85, 3) := dk_182 0 85 (dk_at dksX7_isAsked_1 20 rfl rfl)
theorem dX7_isAsked_46 : decode cX7_isAsked 46 = .ok (.invokevirtual 188, 3) := dk_182 0 188 (dk_at dksX7_isAsked_2 0 rfl rfl)
theorem dX7_isAsked_49 : decode cX7_isAsked 49 = .ok (.istore_n 2, 1) := dk_61 (dk_at dksX7_isAsked_2 3 rfl rfl)
theorem dX7_isAsked_50 : decode cX7_isAsked 50 = .ok (.aload_n 1, 1) := dk_43 (dk_at dksX7_isAsked_2 4 rfl rfl)
theorem dX7_isAsked_51 : decode cX7_isAsked 51 = .ok (.getfield 191, 3) := dk_180 0 191 (dk_at dksX7_isAsked_2 5 rfl rfl)
theorem dX7_isAsked_54 : decode cX7_isAsked 54 = .ok (.iload_n 2, 1) := dk_28 (dk_at dksX7_isAsked_2 8 rfl rfl)
theorem dX7_isAsked_55 : decode cX7_isAsked 55 = .ok (.if_icmp .lt 22, 3) := dk_161 0 22 (dk_at dksX7_isAsked_2 9 rfl rfl)
theorem dX7_isAsked_58 : decode cX7_isAsked 58 = .ok (.aload_n 1, 1) := dk_43 (dk_at dksX7_isAsked_2 12 rfl rfl)
theorem dX7_isAsked_59 : decode cX7_isAsked 59 = .ok (.getfield 191, 3) := dk_180 0 191 (dk_at dksX7_isAsked_2 13 rfl rfl)
theorem dX7_isAsked_62 : decode cX7_isAsked 62 = .ok (.iload_n 2, 1) := dk_28 (dk_at dksX7_isAsked_2 16 rfl rfl)
theorem dX7_isAsked_63 : decode cX7_isAsked 63 = .ok (.if_icmp .ne 18, 3) := dk_160 0 18 (dk_at dksX7_isAsked_2 17 rfl rfl)
theorem dX7_isAsked_66 : decode cX7_isAsked 66 = .ok (.aload_n 1, 1) := dk_43 (dk_at dksX7_isAsked_2 20 rfl rfl)
theorem dX7_isAsked_67 : decode cX7_isAsked 67 = .ok (.getfield 187, 3) := dk_180 0 187 (dk_at dksX7_isAsked_2 21 rfl rfl)
theorem dX7_isAsked_70 : decode cX7_isAsked 70 = .ok (.aload_n 0, 1) := dk_42 (dk_at dksX7_isAsked_3 0 rfl rfl)
theorem dX7_isAsked_71 : decode cX7_isAsked 71 = .ok (.invokevirtual 85, 3) := dk_182 0 85 (dk_at dksX7_isAsked_3 1 rfl rfl)
theorem dX7_isAsked_74 : decode cX7_isAsked 74 = .ok (.if_icmp .ge 7, 3) := dk_162 0 7 (dk_at dksX7_isAsked_3 4 rfl rfl)
theorem dX7_isAsked_77 : decode cX7_isAsked 77 = .ok (.iconst 1, 1) := dk_4 (dk_at dksX7_isAsked_3 7 rfl rfl)
theorem dX7_isAsked_78 : decode cX7_isAsked 78 = .ok (.goto 4, 3) := dk_167 0 4 (dk_at dksX7_isAsked_3 8 rfl rfl)
theorem dX7_isAsked_81 : decode cX7_isAsked 81 = .ok (.iconst 0, 1) := dk_3 (dk_at dksX7_isAsked_3 11 rfl rfl)
theorem dX7_isAsked_82 : decode cX7_isAsked 82 = .ok (.istore_n 3, 1) := dk_62 (dk_at dksX7_isAsked_3 12 rfl rfl)
theorem dX7_isAsked_83 : decode cX7_isAsked 83 = .ok (.aload_n 1, 1) := dk_43 (dk_at dksX7_isAsked_3 13 rfl rfl)
theorem dX7_isAsked_84 : decode cX7_isAsked 84 = .ok (.getfield 184, 3) := dk_180 0 184 (dk_at dksX7_isAsked_3 14 rfl rfl)
theorem dX7_isAsked_87 : decode cX7_isAsked 87 = .ok (.aload_n 0, 1) := dk_42 (dk_at dksX7_isAsked_3 17 rfl rfl)
theorem dX7_isAsked_88 : decode cX7_isAsked 88 = .ok (.getfield 126, 3) := dk_180 0 126 (dk_at dksX7_isAsked_3 18 rfl rfl)
theorem dX7_isAsked_91 : decode cX7_isAsked 91 = .ok (.if_icmp .ne 30, 3) := dk_160 0 30 (dk_at dksX7_isAsked_3 21 rfl rfl)
theorem dX7_isAsked_94 : decode cX7_isAsked 94 = .ok (.aload_n 0, 1) := dk_42 (dk_at dksX7_isAsked_4 0 rfl rfl)
theorem dX7_isAsked_95 : decode cX7_isAsked 95 = .ok (.getfield 15, 3) := dk_180 0 15 (dk_at dksX7_isAsked_4 1 rfl rfl)
theorem dX7_isAsked_98 : decode cX7_isAsked 98 = .ok (.iconst (-1), 1) := dk_2 (dk_at dksX7_isAsked_4 4 rfl rfl)
theorem dX7_isAsked_99 : decode cX7_isAsked 99 = .ok (.if_icmp .eq 14, 3) := dk_159 0 14 (dk_at dksX7_isAsked_4 5 rfl rfl)
theorem dX7_isAsked_102 : decode cX7_isAsked 102 = .ok (.aload_n 0, 1) := dk_42 (dk_at dksX7_isAsked_4 8 rfl rfl)
theorem dX7_isAsked_103 : decode cX7_isAsked 103 = .ok (.getfield 15, 3) := dk_180 0 15 (dk_at dksX7_isAsked_4 9 rfl rfl)
theorem dX7_isAsked_106 : decode cX7_isAsked 106 = .ok (.aload_n 1, 1) := dk_43 (dk_at dksX7_isAsked_4 12 rfl rfl)
theorem dX7_isAsked_107 : decode cX7_isAsked 107 = .ok (.getfield 276, 3) := dk_180 1 20 (dk_at dksX7_isAsked_4 13 rfl rfl)
theorem dX7_isAsked_110 : decode cX7_isAsked 110 = .ok (.if_icmp .ne 11, 3) := dk_160 0 11 (dk_at dksX7_isAsked_4 16 rfl rfl)
theorem dX7_isAsked_113 : decode cX7_isAsked 113 = .ok (.iload_n 3, 1) := dk_29 (dk_at dksX7_isAsked_4 19 rfl rfl)
theorem dX7_isAsked_114 : decode cX7_isAsked 114 = .ok (.ifCond .ne 7, 3) := dk_154 0 7 (dk_at dksX7_isAsked_4 20 rfl rfl)
theorem dX7_isAsked_117 : decode cX7_isAsked 117 = .ok (.iconst 1, 1) := dk_4 (dk_at dksX7_isAsked_4 23 rfl rfl)
theorem dX7_isAsked_118 : decode cX7_isAsked 118 = .ok (.goto 4, 3) := dk_167 0 4 (dk_at dksX7_isAsked_5 0 rfl rfl)
theorem dX7_isAsked_121 : decode cX7_isAsked 121 = .ok (.iconst 0, 1) := dk_3 (dk_at dksX7_isAsked_5 3 rfl rfl)
theorem dX7_isAsked_122 : decode cX7_isAsked 122 = .ok (.istore 4, 2) := dk_54 4 (dk_at dksX7_isAsked_5 4 rfl rfl)
theorem dX7_isAsked_124 : decode cX7_isAsked 124 = .ok (.iload 4, 2) := dk_21 4 (dk_at dksX7_isAsked_5 6 rfl rfl)
theorem dX7_isAsked_126 : decode cX7_isAsked 126 = .ok (.ifCond .eq 19, 3) := dk_153 0 19 (dk_at dksX7_isAsked_5 8 rfl rfl)
theorem dX7_isAsked_129 : decode cX7_isAsked 129 = .ok (.aload_n 0, 1) := dk_42 (dk_at dksX7_isAsked_5 11 rfl rfl)
theorem dX7_isAsked_130 : decode cX7_isAsked 130 = .ok (.aload_n 1, 1) := dk_43 (dk_at dksX7_isAsked_5 12 rfl rfl)
theorem dX7_isAsked_131 : decode cX7_isAsked 131 = .ok (.getfield 276, 3) := dk_180 1 20 (dk_at dksX7_isAsked_5 13 rfl rfl)
theorem dX7_isAsked_134 : decode cX7_isAsked 134 = .ok (.putfield 15, 3) := dk_181 0 15 (dk_at dksX7_isAsked_5 16 rfl rfl)
theorem dX7_isAsked_137 : decode cX7_isAsked 137 = .ok (.aload_n 0, 1) := dk_42 (dk_at dksX7_isAsked_5 19 rfl rfl)
theorem dX7_isAsked_138 : decode cX7_isAsked 138 = .ok (.aload_n 0, 1) := dk_42 (dk_at dksX7_isAsked_5 20 rfl rfl)
theorem dX7_isAsked_139 : decode cX7_isAsked 139 = .ok (.getfield 160, 3) := dk_180 0 160 (dk_at dksX7_isAsked_5 21 rfl rfl)
theorem dX7_isAsked_142 : decode cX7_isAsked 142 = .ok (.putfield 174, 3) := dk_181 0 174 (dk_at dksX7_isAsked_6 0 rfl rfl)
theorem dX7_isAsked_145 : decode cX7_isAsked 145 = .ok (.aload_n 0, 1) := dk_42 (dk_at dksX7_isAsked_6 3 rfl rfl)
theorem dX7_isAsked_146 : decode cX7_isAsked 146 = .ok (.getfield 3, 3) := dk_180 0 3 (dk_at dksX7_isAsked_6 4 rfl rfl)
theorem dX7_isAsked_149 : decode cX7_isAsked 149 = .ok (.bipush 121, 2) := dk_16 121 (dk_at dksX7_isAsked_6 7 rfl rfl)
theorem dX7_isAsked_151 : decode cX7_isAsked 151 = .ok (.aload_n 0, 1) := dk_42 (dk_at dksX7_isAsked_6 9 rfl rfl)
theorem dX7_isAsked_152 : decode cX7_isAsked 152 = .ok (.getfield 53, 3) := dk_180 0 53 (dk_at dksX7_isAsked_6 10 rfl rfl)
theorem dX7_isAsked_155 : decode cX7_isAsked 155 = .ok (.aload_n 1, 1) := dk_43 (dk_at dksX7_isAsked_6 13 rfl rfl)
theorem dX7_isAsked_156 : decode cX7_isAsked 156 = .ok (.getfield 276, 3) := dk_180 1 20 (dk_at dksX7_isAsked_6 14 rfl rfl)
theorem dX7_isAsked_159 : decode cX7_isAsked 159 = .ok (.invokevirtual 180, 3) := dk_182 0 180 (dk_at dksX7_isAsked_6 17 rfl rfl)
theorem dX7_isAsked_162 : decode cX7_isAsked 162 = .ok (.astore 5, 2) := dk_58 5 (dk_at dksX7_isAsked_6 20 rfl rfl)
theorem dX7_isAsked_164 : decode cX7_isAsked 164 = .ok (.aload 5, 2) := dk_25 5 (dk_at dksX7_isAsked_6 22 rfl rfl)
theorem dX7_isAsked_166 : decode cX7_isAsked 166 = .ok (.aload_n 0, 1) := dk_42 (dk_at dksX7_isAsked_7 0 rfl rfl)
theorem dX7_isAsked_167 : decode cX7_isAsked 167 = .ok (.getfield 126, 3) := dk_180 0 126 (dk_at dksX7_isAsked_7 1 rfl rfl)
theorem dX7_isAsked_170 : decode cX7_isAsked 170 = .ok (.putfield 184, 3) := dk_181 0 184 (dk_at dksX7_isAsked_7 4 rfl rfl)
theorem dX7_isAsked_173 : decode cX7_isAsked 173 = .ok (.aload 5, 2) := dk_25 5 (dk_at dksX7_isAsked_7 7 rfl rfl)
theorem dX7_isAsked_175 : decode cX7_isAsked 175 = .ok (.iload 4, 2) := dk_21 4 (dk_at dksX7_isAsked_7 9 rfl rfl)
theorem dX7_isAsked_177 : decode cX7_isAsked 177 = .ok (.putfield 273, 3) := dk_181 1 17 (dk_at dksX7_isAsked_7 11 rfl rfl)
theorem dX7_isAsked_180 : decode cX7_isAsked 180 = .ok (.return_, 1) := dk_177 (dk_at dksX7_isAsked_7 14 rfl rfl)
abbrev cX7_hasLease : ByteArray := prog_22_method_22_code
def yX7_hasLease : MethodName := ⟨RX7, "hasLease", "()Z"⟩
def dkwX7_hasLease_2 : List UInt8 := [182, 0, 165, 100, 16, 6, 162, 0, 7, 4, 167, 0, 4, 3, 172]
abbrev dktX7_hasLease_2 : List UInt8 := dkwX7_hasLease_2 ++ []
def dkwX7_hasLease_1 : List UInt8 := [60, 27, 158, 0, 33, 42, 180, 0, 160, 42, 180, 0, 50, 27, 4, 100, 182, 0, 79, 192, 0, 163]
abbrev dktX7_hasLease_1 : List UInt8 := dkwX7_hasLease_1 ++ dktX7_hasLease_2
def dkwX7_hasLease_0 : List UInt8 := [42, 180, 0, 19, 16, 108, 160, 0, 17, 42, 182, 0, 249, 153, 0, 10, 42, 182, 0, 252, 167, 0, 4, 3]
abbrev dktX7_hasLease_0 : List UInt8 := dkwX7_hasLease_0 ++ dktX7_hasLease_1
theorem dksX7_hasLease_0 : cX7_hasLease.data.toList.drop 0 = dktX7_hasLease_0 := by decide +kernel
theorem dksX7_hasLease_1 : cX7_hasLease.data.toList.drop 24 = dktX7_hasLease_1 := dk_seg dksX7_hasLease_0 24 rfl rfl
theorem dksX7_hasLease_2 : cX7_hasLease.data.toList.drop 46 = dktX7_hasLease_2 := dk_seg dksX7_hasLease_1 22 rfl rfl
theorem dX7_hasLease_0 : decode cX7_hasLease 0 = .ok (.aload_n 0, 1) := dk_42 (dk_at dksX7_hasLease_0 0 rfl rfl)
theorem dX7_hasLease_1 : decode cX7_hasLease 1 = .ok (.getfield 19, 3) := dk_180 0 19 (dk_at dksX7_hasLease_0 1 rfl rfl)
theorem dX7_hasLease_4 : decode cX7_hasLease 4 = .ok (.bipush 108, 2) := dk_16 108 (dk_at dksX7_hasLease_0 4 rfl rfl)
theorem dX7_hasLease_6 : decode cX7_hasLease 6 = .ok (.if_icmp .ne 17, 3) := dk_160 0 17 (dk_at dksX7_hasLease_0 6 rfl rfl)
theorem dX7_hasLease_9 : decode cX7_hasLease 9 = .ok (.aload_n 0, 1) := dk_42 (dk_at dksX7_hasLease_0 9 rfl rfl)
theorem dX7_hasLease_10 : decode cX7_hasLease 10 = .ok (.invokevirtual 249, 3) := dk_182 0 249 (dk_at dksX7_hasLease_0 10 rfl rfl)
theorem dX7_hasLease_13 : decode cX7_hasLease 13 = .ok (.ifCond .eq 10, 3) := dk_153 0 10 (dk_at dksX7_hasLease_0 13 rfl rfl)
theorem dX7_hasLease_16 : decode cX7_hasLease 16 = .ok (.aload_n 0, 1) := dk_42 (dk_at dksX7_hasLease_0 16 rfl rfl)
theorem dX7_hasLease_17 : decode cX7_hasLease 17 = .ok (.invokevirtual 252, 3) := dk_182 0 252 (dk_at dksX7_hasLease_0 17 rfl rfl)
theorem dX7_hasLease_20 : decode cX7_hasLease 20 = .ok (.goto 4, 3) := dk_167 0 4 (dk_at dksX7_hasLease_0 20 rfl rfl)
theorem dX7_hasLease_23 : decode cX7_hasLease 23 = .ok (.iconst 0, 1) := dk_3 (dk_at dksX7_hasLease_0 23 rfl rfl)
theorem dX7_hasLease_24 : decode cX7_hasLease 24 = .ok (.istore_n 1, 1) := dk_60 (dk_at dksX7_hasLease_1 0 rfl rfl)
theorem dX7_hasLease_25 : decode cX7_hasLease 25 = .ok (.iload_n 1, 1) := dk_27 (dk_at dksX7_hasLease_1 1 rfl rfl)
theorem dX7_hasLease_26 : decode cX7_hasLease 26 = .ok (.ifCond .le 33, 3) := dk_158 0 33 (dk_at dksX7_hasLease_1 2 rfl rfl)
theorem dX7_hasLease_29 : decode cX7_hasLease 29 = .ok (.aload_n 0, 1) := dk_42 (dk_at dksX7_hasLease_1 5 rfl rfl)
theorem dX7_hasLease_30 : decode cX7_hasLease 30 = .ok (.getfield 160, 3) := dk_180 0 160 (dk_at dksX7_hasLease_1 6 rfl rfl)
theorem dX7_hasLease_33 : decode cX7_hasLease 33 = .ok (.aload_n 0, 1) := dk_42 (dk_at dksX7_hasLease_1 9 rfl rfl)
theorem dX7_hasLease_34 : decode cX7_hasLease 34 = .ok (.getfield 50, 3) := dk_180 0 50 (dk_at dksX7_hasLease_1 10 rfl rfl)
theorem dX7_hasLease_37 : decode cX7_hasLease 37 = .ok (.iload_n 1, 1) := dk_27 (dk_at dksX7_hasLease_1 13 rfl rfl)
theorem dX7_hasLease_38 : decode cX7_hasLease 38 = .ok (.iconst 1, 1) := dk_4 (dk_at dksX7_hasLease_1 14 rfl rfl)
theorem dX7_hasLease_39 : decode cX7_hasLease 39 = .ok (.isub, 1) := dk_100 (dk_at dksX7_hasLease_1 15 rfl rfl)
theorem dX7_hasLease_40 : decode cX7_hasLease 40 = .ok (.invokevirtual 79, 3) := dk_182 0 79 (dk_at dksX7_hasLease_1 16 rfl rfl)
theorem dX7_hasLease_43 : decode cX7_hasLease 43 = .ok (.checkcast 163, 3) := dk_192 0 163 (dk_at dksX7_hasLease_1 19 rfl rfl)
theorem dX7_hasLease_46 : decode cX7_hasLease 46 = .ok (.invokevirtual 165, 3) := dk_182 0 165 (dk_at dksX7_hasLease_2 0 rfl rfl)
theorem dX7_hasLease_49 : decode cX7_hasLease 49 = .ok (.isub, 1) := dk_100 (dk_at dksX7_hasLease_2 3 rfl rfl)
theorem dX7_hasLease_50 : decode cX7_hasLease 50 = .ok (.bipush 6, 2) := dk_16 6 (dk_at dksX7_hasLease_2 4 rfl rfl)
theorem dX7_hasLease_52 : decode cX7_hasLease 52 = .ok (.if_icmp .ge 7, 3) := dk_162 0 7 (dk_at dksX7_hasLease_2 6 rfl rfl)
theorem dX7_hasLease_55 : decode cX7_hasLease 55 = .ok (.iconst 1, 1) := dk_4 (dk_at dksX7_hasLease_2 9 rfl rfl)
theorem dX7_hasLease_56 : decode cX7_hasLease 56 = .ok (.goto 4, 3) := dk_167 0 4 (dk_at dksX7_hasLease_2 10 rfl rfl)
theorem dX7_hasLease_59 : decode cX7_hasLease 59 = .ok (.iconst 0, 1) := dk_3 (dk_at dksX7_hasLease_2 13 rfl rfl)
theorem dX7_hasLease_60 : decode cX7_hasLease 60 = .ok (.ireturn, 1) := dk_172 (dk_at dksX7_hasLease_2 14 rfl rfl)
abbrev cX7_hasOwnCommitted : ByteArray := prog_22_method_21_code
def yX7_hasOwnCommitted : MethodName := ⟨RX7, "hasOwnCommitted", "()Z"⟩
def dkwX7_hasOwnCommitted_3 : List UInt8 := [60, 132, 2, 1, 167, 255, 220, 27, 172]
abbrev dktX7_hasOwnCommitted_3 : List UInt8 := dkwX7_hasOwnCommitted_3 ++ []
def dkwX7_hasOwnCommitted_2 : List UInt8 := [27, 154, 0, 18, 42, 28, 182, 0, 91, 180, 0, 95, 42, 180, 0, 126, 160, 0, 7, 4, 167, 0, 4, 3]
abbrev dktX7_hasOwnCommitted_2 : List UInt8 := dkwX7_hasOwnCommitted_2 ++ dktX7_hasOwnCommitted_3
def dkwX7_hasOwnCommitted_1 : List UInt8 := [4, 167, 0, 4, 3, 60, 42, 180, 0, 64, 180, 0, 72, 4, 96, 61, 28, 42, 180, 0, 220, 163, 0, 34]
abbrev dktX7_hasOwnCommitted_1 : List UInt8 := dkwX7_hasOwnCommitted_1 ++ dktX7_hasOwnCommitted_2
def dkwX7_hasOwnCommitted_0 : List UInt8 := [42, 180, 0, 64, 180, 0, 72, 158, 0, 21, 42, 180, 0, 64, 180, 0, 88, 42, 180, 0, 126, 160, 0, 7]
abbrev dktX7_hasOwnCommitted_0 : List UInt8 := dkwX7_hasOwnCommitted_0 ++ dktX7_hasOwnCommitted_1
theorem dksX7_hasOwnCommitted_0 : cX7_hasOwnCommitted.data.toList.drop 0 = dktX7_hasOwnCommitted_0 := by decide +kernel
theorem dksX7_hasOwnCommitted_1 : cX7_hasOwnCommitted.data.toList.drop 24 = dktX7_hasOwnCommitted_1 := dk_seg dksX7_hasOwnCommitted_0 24 rfl rfl
theorem dksX7_hasOwnCommitted_2 : cX7_hasOwnCommitted.data.toList.drop 48 = dktX7_hasOwnCommitted_2 := dk_seg dksX7_hasOwnCommitted_1 24 rfl rfl
theorem dksX7_hasOwnCommitted_3 : cX7_hasOwnCommitted.data.toList.drop 72 = dktX7_hasOwnCommitted_3 := dk_seg dksX7_hasOwnCommitted_2 24 rfl rfl
theorem dX7_hasOwnCommitted_0 : decode cX7_hasOwnCommitted 0 = .ok (.aload_n 0, 1) := dk_42 (dk_at dksX7_hasOwnCommitted_0 0 rfl rfl)
theorem dX7_hasOwnCommitted_1 : decode cX7_hasOwnCommitted 1 = .ok (.getfield 64, 3) := dk_180 0 64 (dk_at dksX7_hasOwnCommitted_0 1 rfl rfl)
theorem dX7_hasOwnCommitted_4 : decode cX7_hasOwnCommitted 4 = .ok (.getfield 72, 3) := dk_180 0 72 (dk_at dksX7_hasOwnCommitted_0 4 rfl rfl)
theorem dX7_hasOwnCommitted_7 : decode cX7_hasOwnCommitted 7 = .ok (.ifCond .le 21, 3) := dk_158 0 21 (dk_at dksX7_hasOwnCommitted_0 7 rfl rfl)
theorem dX7_hasOwnCommitted_10 : decode cX7_hasOwnCommitted 10 = .ok (.aload_n 0, 1) := dk_42 (dk_at dksX7_hasOwnCommitted_0 10 rfl rfl)
theorem dX7_hasOwnCommitted_11 : decode cX7_hasOwnCommitted 11 = .ok (.getfield 64, 3) := dk_180 0 64 (dk_at dksX7_hasOwnCommitted_0 11 rfl rfl)
theorem dX7_hasOwnCommitted_14 : decode cX7_hasOwnCommitted 14 = .ok (.getfield 88, 3) := dk_180 0 88 (dk_at dksX7_hasOwnCommitted_0 14 rfl rfl)
theorem dX7_hasOwnCommitted_17 : decode cX7_hasOwnCommitted 17 = .ok (.aload_n 0, 1) := dk_42 (dk_at dksX7_hasOwnCommitted_0 17 rfl rfl)
theorem dX7_hasOwnCommitted_18 : decode cX7_hasOwnCommitted 18 = .ok (.getfield 126, 3) := dk_180 0 126 (dk_at dksX7_hasOwnCommitted_0 18 rfl rfl)
theorem dX7_hasOwnCommitted_21 : decode cX7_hasOwnCommitted 21 = .ok (.if_icmp .ne 7, 3) := dk_160 0 7 (dk_at dksX7_hasOwnCommitted_0 21 rfl rfl)
theorem dX7_hasOwnCommitted_24 : decode cX7_hasOwnCommitted 24 = .ok (.iconst 1, 1) := dk_4 (dk_at dksX7_hasOwnCommitted_1 0 rfl rfl)
theorem dX7_hasOwnCommitted_25 : decode cX7_hasOwnCommitted 25 = .ok (.goto 4, 3) := dk_167 0 4 (dk_at dksX7_hasOwnCommitted_1 1 rfl rfl)
theorem dX7_hasOwnCommitted_28 : decode cX7_hasOwnCommitted 28 = .ok (.iconst 0, 1) := dk_3 (dk_at dksX7_hasOwnCommitted_1 4 rfl rfl)
theorem dX7_hasOwnCommitted_29 : decode cX7_hasOwnCommitted 29 = .ok (.istore_n 1, 1) := dk_60 (dk_at dksX7_hasOwnCommitted_1 5 rfl rfl)
theorem dX7_hasOwnCommitted_30 : decode cX7_hasOwnCommitted 30 = .ok (.aload_n 0, 1) := dk_42 (dk_at dksX7_hasOwnCommitted_1 6 rfl rfl)
theorem dX7_hasOwnCommitted_31 : decode cX7_hasOwnCommitted 31 = .ok (.getfield 64, 3) := dk_180 0 64 (dk_at dksX7_hasOwnCommitted_1 7 rfl rfl)
theorem dX7_hasOwnCommitted_34 : decode cX7_hasOwnCommitted 34 = .ok (.getfield 72, 3) := dk_180 0 72 (dk_at dksX7_hasOwnCommitted_1 10 rfl rfl)
theorem dX7_hasOwnCommitted_37 : decode cX7_hasOwnCommitted 37 = .ok (.iconst 1, 1) := dk_4 (dk_at dksX7_hasOwnCommitted_1 13 rfl rfl)
theorem dX7_hasOwnCommitted_38 : decode cX7_hasOwnCommitted 38 = .ok (.iadd, 1) := dk_96 (dk_at dksX7_hasOwnCommitted_1 14 rfl rfl)
theorem dX7_hasOwnCommitted_39 : decode cX7_hasOwnCommitted 39 = .ok (.istore_n 2, 1) := dk_61 (dk_at dksX7_hasOwnCommitted_1 15 rfl rfl)
theorem dX7_hasOwnCommitted_40 : decode cX7_hasOwnCommitted 40 = .ok (.iload_n 2, 1) := dk_28 (dk_at dksX7_hasOwnCommitted_1 16 rfl rfl)
theorem dX7_hasOwnCommitted_41 : decode cX7_hasOwnCommitted 41 = .ok (.aload_n 0, 1) := dk_42 (dk_at dksX7_hasOwnCommitted_1 17 rfl rfl)
theorem dX7_hasOwnCommitted_42 : decode cX7_hasOwnCommitted 42 = .ok (.getfield 220, 3) := dk_180 0 220 (dk_at dksX7_hasOwnCommitted_1 18 rfl rfl)
theorem dX7_hasOwnCommitted_45 : decode cX7_hasOwnCommitted 45 = .ok (.if_icmp .gt 34, 3) := dk_163 0 34 (dk_at dksX7_hasOwnCommitted_1 21 rfl rfl)
theorem dX7_hasOwnCommitted_48 : decode cX7_hasOwnCommitted 48 = .ok (.iload_n 1, 1) := dk_27 (dk_at dksX7_hasOwnCommitted_2 0 rfl rfl)
theorem dX7_hasOwnCommitted_49 : decode cX7_hasOwnCommitted 49 = .ok (.ifCond .ne 18, 3) := dk_154 0 18 (dk_at dksX7_hasOwnCommitted_2 1 rfl rfl)
theorem dX7_hasOwnCommitted_52 : decode cX7_hasOwnCommitted 52 = .ok (.aload_n 0, 1) := dk_42 (dk_at dksX7_hasOwnCommitted_2 4 rfl rfl)
theorem dX7_hasOwnCommitted_53 : decode cX7_hasOwnCommitted 53 = .ok (.iload_n 2, 1) := dk_28 (dk_at dksX7_hasOwnCommitted_2 5 rfl rfl)
theorem dX7_hasOwnCommitted_54 : decode cX7_hasOwnCommitted 54 = .ok (.invokevirtual 91, 3) := dk_182 0 91 (dk_at dksX7_hasOwnCommitted_2 6 rfl rfl)
theorem dX7_hasOwnCommitted_57 : decode cX7_hasOwnCommitted 57 = .ok (.getfield 95, 3) := dk_180 0 95 (dk_at dksX7_hasOwnCommitted_2 9 rfl rfl)
theorem dX7_hasOwnCommitted_60 : decode cX7_hasOwnCommitted 60 = .ok (.aload_n 0, 1) := dk_42 (dk_at dksX7_hasOwnCommitted_2 12 rfl rfl)
theorem dX7_hasOwnCommitted_61 : decode cX7_hasOwnCommitted 61 = .ok (.getfield 126, 3) := dk_180 0 126 (dk_at dksX7_hasOwnCommitted_2 13 rfl rfl)
theorem dX7_hasOwnCommitted_64 : decode cX7_hasOwnCommitted 64 = .ok (.if_icmp .ne 7, 3) := dk_160 0 7 (dk_at dksX7_hasOwnCommitted_2 16 rfl rfl)
theorem dX7_hasOwnCommitted_67 : decode cX7_hasOwnCommitted 67 = .ok (.iconst 1, 1) := dk_4 (dk_at dksX7_hasOwnCommitted_2 19 rfl rfl)
theorem dX7_hasOwnCommitted_68 : decode cX7_hasOwnCommitted 68 = .ok (.goto 4, 3) := dk_167 0 4 (dk_at dksX7_hasOwnCommitted_2 20 rfl rfl)
theorem dX7_hasOwnCommitted_71 : decode cX7_hasOwnCommitted 71 = .ok (.iconst 0, 1) := dk_3 (dk_at dksX7_hasOwnCommitted_2 23 rfl rfl)
theorem dX7_hasOwnCommitted_72 : decode cX7_hasOwnCommitted 72 = .ok (.istore_n 1, 1) := dk_60 (dk_at dksX7_hasOwnCommitted_3 0 rfl rfl)
theorem dX7_hasOwnCommitted_73 : decode cX7_hasOwnCommitted 73 = .ok (.iinc 2 1, 3) := dk_132 2 1 (dk_at dksX7_hasOwnCommitted_3 1 rfl rfl)
theorem dX7_hasOwnCommitted_76 : decode cX7_hasOwnCommitted 76 = .ok (.goto (-36), 3) := dk_167 255 220 (dk_at dksX7_hasOwnCommitted_3 4 rfl rfl)
theorem dX7_hasOwnCommitted_79 : decode cX7_hasOwnCommitted 79 = .ok (.iload_n 1, 1) := dk_27 (dk_at dksX7_hasOwnCommitted_3 7 rfl rfl)
theorem dX7_hasOwnCommitted_80 : decode cX7_hasOwnCommitted 80 = .ok (.ireturn, 1) := dk_172 (dk_at dksX7_hasOwnCommitted_3 8 rfl rfl)
abbrev cX7_follow : ByteArray := prog_22_method_12_code
def yX7_follow : MethodName := ⟨RX7, "follow", "(I)V"⟩
def dkwX7_follow_2 : List UInt8 := [42, 182, 0, 133, 177]
abbrev dktX7_follow_2 : List UInt8 := dkwX7_follow_2 ++ []
def dkwX7_follow_1 : List UInt8 := [2, 181, 0, 37, 42, 3, 181, 0, 130, 42, 180, 0, 19, 16, 102, 159, 0, 13, 42, 16, 102, 181, 0, 19]
abbrev dktX7_follow_1 : List UInt8 := dkwX7_follow_1 ++ dktX7_follow_2
def dkwX7_follow_0 : List UInt8 := [27, 42, 180, 0, 126, 164, 0, 28, 42, 27, 181, 0, 126, 42, 2, 181, 0, 15, 42, 3, 181, 0, 127, 42]
abbrev dktX7_follow_0 : List UInt8 := dkwX7_follow_0 ++ dktX7_follow_1
theorem dksX7_follow_0 : cX7_follow.data.toList.drop 0 = dktX7_follow_0 := by decide +kernel
theorem dksX7_follow_1 : cX7_follow.data.toList.drop 24 = dktX7_follow_1 := dk_seg dksX7_follow_0 24 rfl rfl
theorem dksX7_follow_2 : cX7_follow.data.toList.drop 48 = dktX7_follow_2 := dk_seg dksX7_follow_1 24 rfl rfl
theorem dX7_follow_0 : decode cX7_follow 0 = .ok (.iload_n 1, 1) := dk_27 (dk_at dksX7_follow_0 0 rfl rfl)
theorem dX7_follow_1 : decode cX7_follow 1 = .ok (.aload_n 0, 1) := dk_42 (dk_at dksX7_follow_0 1 rfl rfl)
theorem dX7_follow_2 : decode cX7_follow 2 = .ok (.getfield 126, 3) := dk_180 0 126 (dk_at dksX7_follow_0 2 rfl rfl)
theorem dX7_follow_5 : decode cX7_follow 5 = .ok (.if_icmp .le 28, 3) := dk_164 0 28 (dk_at dksX7_follow_0 5 rfl rfl)
theorem dX7_follow_8 : decode cX7_follow 8 = .ok (.aload_n 0, 1) := dk_42 (dk_at dksX7_follow_0 8 rfl rfl)
theorem dX7_follow_9 : decode cX7_follow 9 = .ok (.iload_n 1, 1) := dk_27 (dk_at dksX7_follow_0 9 rfl rfl)
theorem dX7_follow_10 : decode cX7_follow 10 = .ok (.putfield 126, 3) := dk_181 0 126 (dk_at dksX7_follow_0 10 rfl rfl)
theorem dX7_follow_13 : decode cX7_follow 13 = .ok (.aload_n 0, 1) := dk_42 (dk_at dksX7_follow_0 13 rfl rfl)
theorem dX7_follow_14 : decode cX7_follow 14 = .ok (.iconst (-1), 1) := dk_2 (dk_at dksX7_follow_0 14 rfl rfl)
theorem dX7_follow_15 : decode cX7_follow 15 = .ok (.putfield 15, 3) := dk_181 0 15 (dk_at dksX7_follow_0 15 rfl rfl)
theorem dX7_follow_18 : decode cX7_follow 18 = .ok (.aload_n 0, 1) := dk_42 (dk_at dksX7_follow_0 18 rfl rfl)
theorem dX7_follow_19 : decode cX7_follow 19 = .ok (.iconst 0, 1) := dk_3 (dk_at dksX7_follow_0 19 rfl rfl)
theorem dX7_follow_20 : decode cX7_follow 20 = .ok (.putfield 127, 3) := dk_181 0 127 (dk_at dksX7_follow_0 20 rfl rfl)
theorem dX7_follow_23 : decode cX7_follow 23 = .ok (.aload_n 0, 1) := dk_42 (dk_at dksX7_follow_0 23 rfl rfl)
theorem dX7_follow_24 : decode cX7_follow 24 = .ok (.iconst (-1), 1) := dk_2 (dk_at dksX7_follow_1 0 rfl rfl)
theorem dX7_follow_25 : decode cX7_follow 25 = .ok (.putfield 37, 3) := dk_181 0 37 (dk_at dksX7_follow_1 1 rfl rfl)
theorem dX7_follow_28 : decode cX7_follow 28 = .ok (.aload_n 0, 1) := dk_42 (dk_at dksX7_follow_1 4 rfl rfl)
theorem dX7_follow_29 : decode cX7_follow 29 = .ok (.iconst 0, 1) := dk_3 (dk_at dksX7_follow_1 5 rfl rfl)
theorem dX7_follow_30 : decode cX7_follow 30 = .ok (.putfield 130, 3) := dk_181 0 130 (dk_at dksX7_follow_1 6 rfl rfl)
theorem dX7_follow_33 : decode cX7_follow 33 = .ok (.aload_n 0, 1) := dk_42 (dk_at dksX7_follow_1 9 rfl rfl)
theorem dX7_follow_34 : decode cX7_follow 34 = .ok (.getfield 19, 3) := dk_180 0 19 (dk_at dksX7_follow_1 10 rfl rfl)
theorem dX7_follow_37 : decode cX7_follow 37 = .ok (.bipush 102, 2) := dk_16 102 (dk_at dksX7_follow_1 13 rfl rfl)
theorem dX7_follow_39 : decode cX7_follow 39 = .ok (.if_icmp .eq 13, 3) := dk_159 0 13 (dk_at dksX7_follow_1 15 rfl rfl)
theorem dX7_follow_42 : decode cX7_follow 42 = .ok (.aload_n 0, 1) := dk_42 (dk_at dksX7_follow_1 18 rfl rfl)
theorem dX7_follow_43 : decode cX7_follow 43 = .ok (.bipush 102, 2) := dk_16 102 (dk_at dksX7_follow_1 19 rfl rfl)
theorem dX7_follow_45 : decode cX7_follow 45 = .ok (.putfield 19, 3) := dk_181 0 19 (dk_at dksX7_follow_1 21 rfl rfl)
theorem dX7_follow_48 : decode cX7_follow 48 = .ok (.aload_n 0, 1) := dk_42 (dk_at dksX7_follow_2 0 rfl rfl)
theorem dX7_follow_49 : decode cX7_follow 49 = .ok (.invokevirtual 133, 3) := dk_182 0 133 (dk_at dksX7_follow_2 1 rfl rfl)
theorem dX7_follow_52 : decode cX7_follow 52 = .ok (.return_, 1) := dk_177 (dk_at dksX7_follow_2 4 rfl rfl)
abbrev cX7_isAnswered : ByteArray := prog_22_method_30_code
def yX7_isAnswered : MethodName := ⟨RX7, "isAnswered", "(LQuorumAlmanacModel$Message;)V"⟩
def dkwX7_isAnswered_6 : List UInt8 := [180, 1, 20, 46, 43, 180, 0, 216, 184, 0, 237, 79, 42, 182, 1, 59, 42, 182, 1, 62, 177]
abbrev dktX7_isAnswered_6 : List UInt8 := dkwX7_isAnswered_6 ++ []
def dkwX7_isAnswered_5 : List UInt8 := [180, 1, 20, 43, 180, 0, 187, 4, 96, 79, 42, 180, 0, 47, 43, 180, 1, 20, 42, 180, 0, 47, 43]
abbrev dktX7_isAnswered_5 : List UInt8 := dkwX7_isAnswered_5 ++ dktX7_isAnswered_6
def dkwX7_isAnswered_4 : List UInt8 := [180, 1, 20, 46, 43, 180, 0, 187, 4, 96, 184, 0, 237, 79, 167, 0, 18, 42, 180, 0, 40, 43]
abbrev dktX7_isAnswered_4 : List UInt8 := dkwX7_isAnswered_4 ++ dktX7_isAnswered_5
def dkwX7_isAnswered_3 : List UInt8 := [46, 43, 180, 0, 187, 184, 0, 237, 79, 42, 180, 0, 40, 43, 180, 1, 20, 42, 180, 0, 40, 43]
abbrev dktX7_isAnswered_3 : List UInt8 := dkwX7_isAnswered_3 ++ dktX7_isAnswered_4
def dkwX7_isAnswered_2 : List UInt8 := [177, 43, 180, 1, 17, 153, 0, 58, 42, 180, 0, 44, 43, 180, 1, 20, 42, 180, 0, 44, 43, 180, 1, 20]
abbrev dktX7_isAnswered_2 : List UInt8 := dkwX7_isAnswered_2 ++ dktX7_isAnswered_3
def dkwX7_isAnswered_1 : List UInt8 := [16, 108, 160, 0, 22, 43, 180, 0, 184, 42, 180, 0, 126, 160, 0, 11, 43, 180, 0, 216, 2, 160, 0, 4]
abbrev dktX7_isAnswered_1 : List UInt8 := dkwX7_isAnswered_1 ++ dktX7_isAnswered_2
def dkwX7_isAnswered_0 : List UInt8 := [43, 180, 0, 184, 42, 180, 0, 126, 164, 0, 12, 42, 43, 180, 0, 184, 182, 1, 14, 177, 42, 180, 0, 19]
abbrev dktX7_isAnswered_0 : List UInt8 := dkwX7_isAnswered_0 ++ dktX7_isAnswered_1
theorem dksX7_isAnswered_0 : cX7_isAnswered.data.toList.drop 0 = dktX7_isAnswered_0 := by decide +kernel
theorem dksX7_isAnswered_1 : cX7_isAnswered.data.toList.drop 24 = dktX7_isAnswered_1 := dk_seg dksX7_isAnswered_0 24 rfl rfl
theorem dksX7_isAnswered_2 : cX7_isAnswered.data.toList.drop 48 = dktX7_isAnswered_2 := dk_seg dksX7_isAnswered_1 24 rfl rfl
theorem dksX7_isAnswered_3 : cX7_isAnswered.data.toList.drop 72 = dktX7_isAnswered_3 := dk_seg dksX7_isAnswered_2 24 rfl rfl
theorem dksX7_isAnswered_4 : cX7_isAnswered.data.toList.drop 94 = dktX7_isAnswered_4 := dk_seg dksX7_isAnswered_3 22 rfl rfl
theorem dksX7_isAnswered_5 : cX7_isAnswered.data.toList.drop 116 = dktX7_isAnswered_5 := dk_seg dksX7_isAnswered_4 22 rfl rfl
theorem dksX7_isAnswered_6 : cX7_isAnswered.data.toList.drop 139 = dktX7_isAnswered_6 := dk_seg dksX7_isAnswered_5 23 rfl rfl
theorem dX7_isAnswered_0 : decode cX7_isAnswered 0 = .ok (.aload_n 1, 1) := dk_43 (dk_at dksX7_isAnswered_0 0 rfl rfl)
theorem dX7_isAnswered_1 : decode cX7_isAnswered 1 = .ok (.getfield 184, 3) := dk_180 0 184 (dk_at dksX7_isAnswered_0 1 rfl rfl)
theorem dX7_isAnswered_4 : decode cX7_isAnswered 4 = .ok (.aload_n 0, 1) := dk_42 (dk_at dksX7_isAnswered_0 4 rfl rfl)
theorem dX7_isAnswered_5 : decode cX7_isAnswered 5 = .ok (.getfield 126, 3) := dk_180 0 126 (dk_at dksX7_isAnswered_0 5 rfl rfl)
theorem dX7_isAnswered_8 : decode cX7_isAnswered 8 = .ok (.if_icmp .le 12, 3) := dk_164 0 12 (dk_at dksX7_isAnswered_0 8 rfl rfl)
theorem dX7_isAnswered_11 : decode cX7_isAnswered 11 = .ok (.aload_n 0, 1) := dk_42 (dk_at dksX7_isAnswered_0 11 rfl rfl)
theorem dX7_isAnswered_12 : decode cX7_isAnswered 12 = .ok (.aload_n 1, 1) := dk_43 (dk_at dksX7_isAnswered_0 12 rfl rfl)
theorem dX7_isAnswered_13 : decode cX7_isAnswered 13 = .ok (.getfield 184, 3) := dk_180 0 184 (dk_at dksX7_isAnswered_0 13 rfl rfl)
theorem dX7_isAnswered_16 : decode cX7_isAnswered 16 = .ok (.invokevirtual 270, 3) := dk_182 1 14 (dk_at dksX7_isAnswered_0 16 rfl rfl)
theorem dX7_isAnswered_19 : decode cX7_isAnswered 19 = .ok (.return_, 1) := dk_177 (dk_at dksX7_isAnswered_0 19 rfl rfl)
theorem dX7_isAnswered_20 : decode cX7_isAnswered 20 = .ok (.aload_n 0, 1) := dk_42 (dk_at dksX7_isAnswered_0 20 rfl rfl)
theorem dX7_isAnswered_21 : decode cX7_isAnswered 21 = .ok (.getfield 19, 3) := dk_180 0 19 (dk_at dksX7_isAnswered_0 21 rfl rfl)
theorem dX7_isAnswered_24 : decode cX7_isAnswered 24 = .ok (.bipush 108, 2) := dk_16 108 (dk_at dksX7_isAnswered_1 0 rfl rfl)
theorem dX7_isAnswered_26 : decode cX7_isAnswered 26 = .ok (.if_icmp .ne 22, 3) := dk_160 0 22 (dk_at dksX7_isAnswered_1 2 rfl rfl)
theorem dX7_isAnswered_29 : decode cX7_isAnswered 29 = .ok (.aload_n 1, 1) := dk_43 (dk_at dksX7_isAnswered_1 5 rfl rfl)
theorem dX7_isAnswered_30 : decode cX7_isAnswered 30 = .ok (.getfield 184, 3) := dk_180 0 184 (dk_at dksX7_isAnswered_1 6 rfl rfl)
theorem dX7_isAnswered_33 : decode cX7_isAnswered 33 = .ok (.aload_n 0, 1) := dk_42 (dk_at dksX7_isAnswered_1 9 rfl rfl)
theorem dX7_isAnswered_34 : decode cX7_isAnswered 34 = .ok (.getfield 126, 3) := dk_180 0 126 (dk_at dksX7_isAnswered_1 10 rfl rfl)
theorem dX7_isAnswered_37 : decode cX7_isAnswered 37 = .ok (.if_icmp .ne 11, 3) := dk_160 0 11 (dk_at dksX7_isAnswered_1 13 rfl rfl)
theorem dX7_isAnswered_40 : decode cX7_isAnswered 40 = .ok (.aload_n 1, 1) := dk_43 (dk_at dksX7_isAnswered_1 16 rfl rfl)
theorem dX7_isAnswered_41 : decode cX7_isAnswered 41 = .ok (.getfield 216, 3) := dk_180 0 216 (dk_at dksX7_isAnswered_1 17 rfl rfl)
theorem dX7_isAnswered_44 : decode cX7_isAnswered 44 = .ok (.iconst (-1), 1) := dk_2 (dk_at dksX7_isAnswered_1 20 rfl rfl)
theorem dX7_isAnswered_45 : decode cX7_isAnswered 45 = .ok (.if_icmp .ne 4, 3) := dk_160 0 4 (dk_at dksX7_isAnswered_1 21 rfl rfl)
theorem dX7_isAnswered_48 : decode cX7_isAnswered 48 = .ok (.return_, 1) := dk_177 (dk_at dksX7_isAnswered_2 0 rfl rfl)
theorem dX7_isAnswered_49 : decode cX7_isAnswered 49 = .ok (.aload_n 1, 1) := dk_43 (dk_at dksX7_isAnswered_2 1 rfl rfl)
theorem dX7_isAnswered_50 : decode cX7_isAnswered 50 = .ok (.getfield 273, 3) := dk_180 1 17 (dk_at dksX7_isAnswered_2 2 rfl rfl)
theorem dX7_isAnswered_53 : decode cX7_isAnswered 53 = .ok (.ifCond .eq 58, 3) := dk_153 0 58 (dk_at dksX7_isAnswered_2 5 rfl rfl)
theorem dX7_isAnswered_56 : decode cX7_isAnswered 56 = .ok (.aload_n 0, 1) := dk_42 (dk_at dksX7_isAnswered_2 8 rfl rfl)
theorem dX7_isAnswered_57 : decode cX7_isAnswered 57 = .ok (.getfield 44, 3) := dk_180 0 44 (dk_at dksX7_isAnswered_2 9 rfl rfl)
theorem dX7_isAnswered_60 : decode cX7_isAnswered 60 = .ok (.aload_n 1, 1) := dk_43 (dk_at dksX7_isAnswered_2 12 rfl rfl)
theorem dX7_isAnswered_61 : decode cX7_isAnswered 61 = .ok (.getfield 276, 3) := dk_180 1 20 (dk_at dksX7_isAnswered_2 13 rfl rfl)
theorem dX7_isAnswered_64 : decode cX7_isAnswered 64 = .ok (.aload_n 0, 1) := dk_42 (dk_at dksX7_isAnswered_2 16 rfl rfl)
theorem dX7_isAnswered_65 : decode cX7_isAnswered 65 = .ok (.getfield 44, 3) := dk_180 0 44 (dk_at dksX7_isAnswered_2 17 rfl rfl)
theorem dX7_isAnswered_68 : decode cX7_isAnswered 68 = .ok (.aload_n 1, 1) := dk_43 (dk_at dksX7_isAnswered_2 20 rfl rfl)
theorem dX7_isAnswered_69 : decode cX7_isAnswered 69 = .ok (.getfield 276, 3) := dk_180 1 20 (dk_at dksX7_isAnswered_2 21 rfl rfl)
theorem dX7_isAnswered_72 : decode cX7_isAnswered 72 = .ok (.iaload, 1) := dk_46 (dk_at dksX7_isAnswered_3 0 rfl rfl)
theorem dX7_isAnswered_73 : decode cX7_isAnswered 73 = .ok (.aload_n 1, 1) := dk_43 (dk_at dksX7_isAnswered_3 1 rfl rfl)
theorem dX7_isAnswered_74 : decode cX7_isAnswered 74 = .ok (.getfield 187, 3) := dk_180 0 187 (dk_at dksX7_isAnswered_3 2 rfl rfl)
theorem dX7_isAnswered_77 : decode cX7_isAnswered 77 = .ok (.invokestatic 237, 3) := dk_184 0 237 (dk_at dksX7_isAnswered_3 5 rfl rfl)
theorem dX7_isAnswered_80 : decode cX7_isAnswered 80 = .ok (.iastore, 1) := dk_79 (dk_at dksX7_isAnswered_3 8 rfl rfl)
theorem dX7_isAnswered_81 : decode cX7_isAnswered 81 = .ok (.aload_n 0, 1) := dk_42 (dk_at dksX7_isAnswered_3 9 rfl rfl)
theorem dX7_isAnswered_82 : decode cX7_isAnswered 82 = .ok (.getfield 40, 3) := dk_180 0 40 (dk_at dksX7_isAnswered_3 10 rfl rfl)
theorem dX7_isAnswered_85 : decode cX7_isAnswered 85 = .ok (.aload_n 1, 1) := dk_43 (dk_at dksX7_isAnswered_3 13 rfl rfl)
theorem dX7_isAnswered_86 : decode cX7_isAnswered 86 = .ok (.getfield 276, 3) := dk_180 1 20 (dk_at dksX7_isAnswered_3 14 rfl rfl)
theorem dX7_isAnswered_89 : decode cX7_isAnswered 89 = .ok (.aload_n 0, 1) := dk_42 (dk_at dksX7_isAnswered_3 17 rfl rfl)
theorem dX7_isAnswered_90 : decode cX7_isAnswered 90 = .ok (.getfield 40, 3) := dk_180 0 40 (dk_at dksX7_isAnswered_3 18 rfl rfl)
theorem dX7_isAnswered_93 : decode cX7_isAnswered 93 = .ok (.aload_n 1, 1) := dk_43 (dk_at dksX7_isAnswered_3 21 rfl rfl)
theorem dX7_isAnswered_94 : decode cX7_isAnswered 94 = .ok (.getfield 276, 3) := dk_180 1 20 (dk_at dksX7_isAnswered_4 0 rfl rfl)
theorem dX7_isAnswered_97 : decode cX7_isAnswered 97 = .ok (.iaload, 1) := dk_46 (dk_at dksX7_isAnswered_4 3 rfl rfl)
theorem dX7_isAnswered_98 : decode cX7_isAnswered 98 = .ok (.aload_n 1, 1) := dk_43 (dk_at dksX7_isAnswered_4 4 rfl rfl)
theorem dX7_isAnswered_99 : decode cX7_isAnswered 99 = .ok (.getfield 187, 3) := dk_180 0 187 (dk_at dksX7_isAnswered_4 5 rfl rfl)
theorem dX7_isAnswered_102 : decode cX7_isAnswered 102 = .ok (.iconst 1, 1) := dk_4 (dk_at dksX7_isAnswered_4 8 rfl rfl)
theorem dX7_isAnswered_103 : decode cX7_isAnswered 103 = .ok (.iadd, 1) := dk_96 (dk_at dksX7_isAnswered_4 9 rfl rfl)
theorem dX7_isAnswered_104 : decode cX7_isAnswered 104 = .ok (.invokestatic 237, 3) := dk_184 0 237 (dk_at dksX7_isAnswered_4 10 rfl rfl)
theorem dX7_isAnswered_107 : decode cX7_isAnswered 107 = .ok (.iastore, 1) := dk_79 (dk_at dksX7_isAnswered_4 13 rfl rfl)
theorem dX7_isAnswered_108 : decode cX7_isAnswered 108 = .ok (.goto 18, 3) := dk_167 0 18 (dk_at dksX7_isAnswered_4 14 rfl rfl)
theorem dX7_isAnswered_111 : decode cX7_isAnswered 111 = .ok (.aload_n 0, 1) := dk_42 (dk_at dksX7_isAnswered_4 17 rfl rfl)
theorem dX7_isAnswered_112 : decode cX7_isAnswered 112 = .ok (.getfield 40, 3) := dk_180 0 40 (dk_at dksX7_isAnswered_4 18 rfl rfl)
theorem dX7_isAnswered_115 : decode cX7_isAnswered 115 = .ok (.aload_n 1, 1) := dk_43 (dk_at dksX7_isAnswered_4 21 rfl rfl)
theorem dX7_isAnswered_116 : decode cX7_isAnswered 116 = .ok (.getfield 276, 3) := dk_180 1 20 (dk_at dksX7_isAnswered_5 0 rfl rfl)
theorem dX7_isAnswered_119 : decode cX7_isAnswered 119 = .ok (.aload_n 1, 1) := dk_43 (dk_at dksX7_isAnswered_5 3 rfl rfl)
theorem dX7_isAnswered_120 : decode cX7_isAnswered 120 = .ok (.getfield 187, 3) := dk_180 0 187 (dk_at dksX7_isAnswered_5 4 rfl rfl)
theorem dX7_isAnswered_123 : decode cX7_isAnswered 123 = .ok (.iconst 1, 1) := dk_4 (dk_at dksX7_isAnswered_5 7 rfl rfl)
theorem dX7_isAnswered_124 : decode cX7_isAnswered 124 = .ok (.iadd, 1) := dk_96 (dk_at dksX7_isAnswered_5 8 rfl rfl)
theorem dX7_isAnswered_125 : decode cX7_isAnswered 125 = .ok (.iastore, 1) := dk_79 (dk_at dksX7_isAnswered_5 9 rfl rfl)
theorem dX7_isAnswered_126 : decode cX7_isAnswered 126 = .ok (.aload_n 0, 1) := dk_42 (dk_at dksX7_isAnswered_5 10 rfl rfl)
theorem dX7_isAnswered_127 : decode cX7_isAnswered 127 = .ok (.getfield 47, 3) := dk_180 0 47 (dk_at dksX7_isAnswered_5 11 rfl rfl)
theorem dX7_isAnswered_130 : decode cX7_isAnswered 130 = .ok (.aload_n 1, 1) := dk_43 (dk_at dksX7_isAnswered_5 14 rfl rfl)
theorem dX7_isAnswered_131 : decode cX7_isAnswered 131 = .ok (.getfield 276, 3) := dk_180 1 20 (dk_at dksX7_isAnswered_5 15 rfl rfl)
theorem dX7_isAnswered_134 : decode cX7_isAnswered 134 = .ok (.aload_n 0, 1) := dk_42 (dk_at dksX7_isAnswered_5 18 rfl rfl)
theorem dX7_isAnswered_135 : decode cX7_isAnswered 135 = .ok (.getfield 47, 3) := dk_180 0 47 (dk_at dksX7_isAnswered_5 19 rfl rfl)
theorem dX7_isAnswered_138 : decode cX7_isAnswered 138 = .ok (.aload_n 1, 1) := dk_43 (dk_at dksX7_isAnswered_5 22 rfl rfl)
theorem dX7_isAnswered_139 : decode cX7_isAnswered 139 = .ok (.getfield 276, 3) := dk_180 1 20 (dk_at dksX7_isAnswered_6 0 rfl rfl)
theorem dX7_isAnswered_142 : decode cX7_isAnswered 142 = .ok (.iaload, 1) := dk_46 (dk_at dksX7_isAnswered_6 3 rfl rfl)
theorem dX7_isAnswered_143 : decode cX7_isAnswered 143 = .ok (.aload_n 1, 1) := dk_43 (dk_at dksX7_isAnswered_6 4 rfl rfl)
theorem dX7_isAnswered_144 : decode cX7_isAnswered 144 = .ok (.getfield 216, 3) := dk_180 0 216 (dk_at dksX7_isAnswered_6 5 rfl rfl)
theorem dX7_isAnswered_147 : decode cX7_isAnswered 147 = .ok (.invokestatic 237, 3) := dk_184 0 237 (dk_at dksX7_isAnswered_6 8 rfl rfl)
theorem dX7_isAnswered_150 : decode cX7_isAnswered 150 = .ok (.iastore, 1) := dk_79 (dk_at dksX7_isAnswered_6 11 rfl rfl)
theorem dX7_isAnswered_151 : decode cX7_isAnswered 151 = .ok (.aload_n 0, 1) := dk_42 (dk_at dksX7_isAnswered_6 12 rfl rfl)
theorem dX7_isAnswered_152 : decode cX7_isAnswered 152 = .ok (.invokevirtual 315, 3) := dk_182 1 59 (dk_at dksX7_isAnswered_6 13 rfl rfl)
theorem dX7_isAnswered_155 : decode cX7_isAnswered 155 = .ok (.aload_n 0, 1) := dk_42 (dk_at dksX7_isAnswered_6 16 rfl rfl)
theorem dX7_isAnswered_156 : decode cX7_isAnswered 156 = .ok (.invokevirtual 318, 3) := dk_182 1 62 (dk_at dksX7_isAnswered_6 17 rfl rfl)
theorem dX7_isAnswered_159 : decode cX7_isAnswered 159 = .ok (.return_, 1) := dk_177 (dk_at dksX7_isAnswered_6 20 rfl rfl)
abbrev cX7_gets : ByteArray := prog_22_method_26_code
def yX7_gets : MethodName := ⟨RX7, "gets", "(LQuorumAlmanacModel$Message;)V"⟩
def dkwX7_gets_16 : List UInt8 := [177]
abbrev dktX7_gets_16 : List UInt8 := dkwX7_gets_16 ++ []
def dkwX7_gets_15 : List UInt8 := [180, 0, 226, 182, 0, 75, 96, 43, 180, 0, 223, 184, 1, 48, 184, 0, 237, 182, 0, 246, 42, 182, 1, 39]
abbrev dktX7_gets_15 : List UInt8 := dkwX7_gets_15 ++ dktX7_gets_16
def dkwX7_gets_14 : List UInt8 := [180, 0, 226, 182, 0, 75, 96, 184, 0, 237, 181, 0, 127, 42, 42, 180, 0, 220, 43, 180, 0, 187, 43]
abbrev dktX7_gets_14 : List UInt8 := dkwX7_gets_14 ++ dktX7_gets_15
def dkwX7_gets_13 : List UInt8 := [167, 0, 4, 3, 54, 5, 132, 3, 1, 167, 255, 154, 42, 42, 180, 0, 127, 43, 180, 0, 187, 43]
abbrev dktX7_gets_13 : List UInt8 := dkwX7_gets_13 ++ dktX7_gets_14
def dkwX7_gets_12 : List UInt8 := [42, 180, 0, 30, 43, 180, 0, 226, 29, 182, 0, 79, 192, 0, 83, 182, 0, 204, 153, 0, 7, 4]
abbrev dktX7_gets_12 : List UInt8 := dkwX7_gets_12 ++ dktX7_gets_13
def dkwX7_gets_11 : List UInt8 := [192, 0, 83, 180, 0, 95, 159, 0, 9, 42, 21, 4, 182, 1, 45, 21, 4, 42, 182, 0, 85, 164, 0, 28]
abbrev dktX7_gets_11 : List UInt8 := dkwX7_gets_11 ++ dktX7_gets_12
def dkwX7_gets_10 : List UInt8 := [182, 1, 42, 153, 0, 35, 42, 21, 4, 182, 0, 91, 180, 0, 95, 43, 180, 0, 226, 29, 182, 0, 79]
abbrev dktX7_gets_10 : List UInt8 := dkwX7_gets_10 ++ dktX7_gets_11
def dkwX7_gets_9 : List UInt8 := [29, 43, 180, 0, 226, 182, 0, 75, 162, 0, 97, 43, 180, 0, 187, 4, 96, 29, 96, 54, 4, 42, 21, 4]
abbrev dktX7_gets_9 : List UInt8 := dkwX7_gets_9 ++ dktX7_gets_10
def dkwX7_gets_8 : List UInt8 := [181, 0, 184, 45, 43, 180, 0, 216, 181, 0, 216, 45, 3, 181, 1, 17, 45, 28, 181, 0, 187, 177, 3, 62]
abbrev dktX7_gets_8 : List UInt8 := dkwX7_gets_8 ++ dktX7_gets_9
def dkwX7_gets_7 : List UInt8 := [180, 0, 3, 16, 107, 42, 180, 0, 53, 43, 180, 1, 20, 182, 0, 180, 78, 45, 42, 180, 0, 126]
abbrev dktX7_gets_7 : List UInt8 := dkwX7_gets_7 ++ dktX7_gets_8
def dkwX7_gets_6 : List UInt8 := [167, 0, 4, 2, 61, 28, 2, 159, 0, 61, 42, 180, 0, 3, 89, 180, 1, 26, 4, 96, 181, 1, 26, 42]
abbrev dktX7_gets_6 : List UInt8 := dkwX7_gets_6 ++ dktX7_gets_7
def dkwX7_gets_5 : List UInt8 := [42, 43, 180, 0, 187, 182, 0, 91, 180, 0, 95, 43, 180, 0, 191, 159, 0, 12, 43, 180, 0, 187, 4, 100]
abbrev dktX7_gets_5 : List UInt8 := dkwX7_gets_5 ++ dktX7_gets_6
def dkwX7_gets_4 : List UInt8 := [164, 0, 10, 42, 182, 0, 85, 167, 0, 45, 43, 180, 0, 187, 42, 180, 0, 64, 180, 0, 72, 164, 0, 30]
abbrev dktX7_gets_4 : List UInt8 := dkwX7_gets_4 ++ dktX7_gets_5
def dkwX7_gets_3 : List UInt8 := [180, 0, 72, 162, 0, 13, 42, 180, 0, 64, 180, 0, 72, 167, 0, 63, 43, 180, 0, 187, 42, 182, 0, 85]
abbrev dktX7_gets_3 : List UInt8 := dkwX7_gets_3 ++ dktX7_gets_4
def dkwX7_gets_2 : List UInt8 := [160, 0, 16, 42, 43, 180, 0, 219, 182, 1, 35, 42, 182, 1, 39, 177, 43, 180, 0, 187, 42, 180, 0, 64]
abbrev dktX7_gets_2 : List UInt8 := dkwX7_gets_2 ++ dktX7_gets_3
def dkwX7_gets_1 : List UInt8 := [42, 43, 180, 1, 20, 181, 0, 37, 42, 43, 180, 0, 216, 181, 0, 130, 43, 180, 1, 9, 16, 115]
abbrev dktX7_gets_1 : List UInt8 := dkwX7_gets_1 ++ dktX7_gets_2
def dkwX7_gets_0 : List UInt8 := [42, 43, 180, 0, 184, 182, 1, 14, 42, 42, 180, 0, 160, 181, 0, 174, 42, 42, 180, 0, 160, 181, 0, 34]
abbrev dktX7_gets_0 : List UInt8 := dkwX7_gets_0 ++ dktX7_gets_1
theorem dksX7_gets_0 : cX7_gets.data.toList.drop 0 = dktX7_gets_0 := by decide +kernel
theorem dksX7_gets_1 : cX7_gets.data.toList.drop 24 = dktX7_gets_1 := dk_seg dksX7_gets_0 24 rfl rfl
theorem dksX7_gets_2 : cX7_gets.data.toList.drop 46 = dktX7_gets_2 := dk_seg dksX7_gets_1 22 rfl rfl
theorem dksX7_gets_3 : cX7_gets.data.toList.drop 70 = dktX7_gets_3 := dk_seg dksX7_gets_2 24 rfl rfl
theorem dksX7_gets_4 : cX7_gets.data.toList.drop 94 = dktX7_gets_4 := dk_seg dksX7_gets_3 24 rfl rfl
theorem dksX7_gets_5 : cX7_gets.data.toList.drop 118 = dktX7_gets_5 := dk_seg dksX7_gets_4 24 rfl rfl
theorem dksX7_gets_6 : cX7_gets.data.toList.drop 142 = dktX7_gets_6 := dk_seg dksX7_gets_5 24 rfl rfl
theorem dksX7_gets_7 : cX7_gets.data.toList.drop 166 = dktX7_gets_7 := dk_seg dksX7_gets_6 24 rfl rfl
theorem dksX7_gets_8 : cX7_gets.data.toList.drop 188 = dktX7_gets_8 := dk_seg dksX7_gets_7 22 rfl rfl
theorem dksX7_gets_9 : cX7_gets.data.toList.drop 212 = dktX7_gets_9 := dk_seg dksX7_gets_8 24 rfl rfl
theorem dksX7_gets_10 : cX7_gets.data.toList.drop 236 = dktX7_gets_10 := dk_seg dksX7_gets_9 24 rfl rfl
theorem dksX7_gets_11 : cX7_gets.data.toList.drop 259 = dktX7_gets_11 := dk_seg dksX7_gets_10 23 rfl rfl
theorem dksX7_gets_12 : cX7_gets.data.toList.drop 283 = dktX7_gets_12 := dk_seg dksX7_gets_11 24 rfl rfl
theorem dksX7_gets_13 : cX7_gets.data.toList.drop 305 = dktX7_gets_13 := dk_seg dksX7_gets_12 22 rfl rfl
theorem dksX7_gets_14 : cX7_gets.data.toList.drop 327 = dktX7_gets_14 := dk_seg dksX7_gets_13 22 rfl rfl
theorem dksX7_gets_15 : cX7_gets.data.toList.drop 350 = dktX7_gets_15 := dk_seg dksX7_gets_14 23 rfl rfl
theorem dksX7_gets_16 : cX7_gets.data.toList.drop 374 = dktX7_gets_16 := dk_seg dksX7_gets_15 24 rfl rfl
theorem dX7_gets_0 : decode cX7_gets 0 = .ok (.aload_n 0, 1) := dk_42 (dk_at dksX7_gets_0 0 rfl rfl)
theorem dX7_gets_1 : decode cX7_gets 1 = .ok (.aload_n 1, 1) := dk_43 (dk_at dksX7_gets_0 1 rfl rfl)
theorem dX7_gets_2 : decode cX7_gets 2 = .ok (.getfield 184, 3) := dk_180 0 184 (dk_at dksX7_gets_0 2 rfl rfl)
theorem dX7_gets_5 : decode cX7_gets 5 = .ok (.invokevirtual 270, 3) := dk_182 1 14 (dk_at dksX7_gets_0 5 rfl rfl)
theorem dX7_gets_8 : decode cX7_gets 8 = .ok (.aload_n 0, 1) := dk_42 (dk_at dksX7_gets_0 8 rfl rfl)
theorem dX7_gets_9 : decode cX7_gets 9 = .ok (.aload_n 0, 1) := dk_42 (dk_at dksX7_gets_0 9 rfl rfl)
theorem dX7_gets_10 : decode cX7_gets 10 = .ok (.getfield 160, 3) := dk_180 0 160 (dk_at dksX7_gets_0 10 rfl rfl)
theorem dX7_gets_13 : decode cX7_gets 13 = .ok (.putfield 174, 3) := dk_181 0 174 (dk_at dksX7_gets_0 13 rfl rfl)
theorem dX7_gets_16 : decode cX7_gets 16 = .ok (.aload_n 0, 1) := dk_42 (dk_at dksX7_gets_0 16 rfl rfl)
theorem dX7_gets_17 : decode cX7_gets 17 = .ok (.aload_n 0, 1) := dk_42 (dk_at dksX7_gets_0 17 rfl rfl)
theorem dX7_gets_18 : decode cX7_gets 18 = .ok (.getfield 160, 3) := dk_180 0 160 (dk_at dksX7_gets_0 18 rfl rfl)
theorem dX7_gets_21 : decode cX7_gets 21 = .ok (.putfield 34, 3) := dk_181 0 34 (dk_at dksX7_gets_0 21 rfl rfl)
theorem dX7_gets_24 : decode cX7_gets 24 = .ok (.aload_n 0, 1) := dk_42 (dk_at dksX7_gets_1 0 rfl rfl)
theorem dX7_gets_25 : decode cX7_gets 25 = .ok (.aload_n 1, 1) := dk_43 (dk_at dksX7_gets_1 1 rfl rfl)
theorem dX7_gets_26 : decode cX7_gets 26 = .ok (.getfield 276, 3) := dk_180 1 20 (dk_at dksX7_gets_1 2 rfl rfl)
theorem dX7_gets_29 : decode cX7_gets 29 = .ok (.putfield 37, 3) := dk_181 0 37 (dk_at dksX7_gets_1 5 rfl rfl)
theorem dX7_gets_32 : decode cX7_gets 32 = .ok (.aload_n 0, 1) := dk_42 (dk_at dksX7_gets_1 8 rfl rfl)
theorem dX7_gets_33 : decode cX7_gets 33 = .ok (.aload_n 1, 1) := dk_43 (dk_at dksX7_gets_1 9 rfl rfl)
theorem dX7_gets_34 : decode cX7_gets 34 = .ok (.getfield 216, 3) := dk_180 0 216 (dk_at dksX7_gets_1 10 rfl rfl)
theorem dX7_gets_37 : decode cX7_gets 37 = .ok (.putfield 130, 3) := dk_181 0 130 (dk_at dksX7_gets_1 13 rfl rfl)
theorem dX7_gets_40 : decode cX7_gets 40 = .ok (.aload_n 1, 1) := dk_43 (dk_at dksX7_gets_1 16 rfl rfl)
theorem dX7_gets_41 : decode cX7_gets 41 = .ok (.getfield 265, 3) := dk_180 1 9 (dk_at dksX7_gets_1 17 rfl rfl)
theorem dX7_gets_44 : decode cX7_gets 44 = .ok (.bipush 115, 2) := dk_16 115 (dk_at dksX7_gets_1 20 rfl rfl)
theorem dX7_gets_46 : decode cX7_gets 46 = .ok (.if_icmp .ne 16, 3) := dk_160 0 16 (dk_at dksX7_gets_2 0 rfl rfl)
theorem dX7_gets_49 : decode cX7_gets 49 = .ok (.aload_n 0, 1) := dk_42 (dk_at dksX7_gets_2 3 rfl rfl)
theorem dX7_gets_50 : decode cX7_gets 50 = .ok (.aload_n 1, 1) := dk_43 (dk_at dksX7_gets_2 4 rfl rfl)
theorem dX7_gets_51 : decode cX7_gets 51 = .ok (.getfield 219, 3) := dk_180 0 219 (dk_at dksX7_gets_2 5 rfl rfl)
theorem dX7_gets_54 : decode cX7_gets 54 = .ok (.invokevirtual 291, 3) := dk_182 1 35 (dk_at dksX7_gets_2 8 rfl rfl)
theorem dX7_gets_57 : decode cX7_gets 57 = .ok (.aload_n 0, 1) := dk_42 (dk_at dksX7_gets_2 11 rfl rfl)
theorem dX7_gets_58 : decode cX7_gets 58 = .ok (.invokevirtual 295, 3) := dk_182 1 39 (dk_at dksX7_gets_2 12 rfl rfl)
theorem dX7_gets_61 : decode cX7_gets 61 = .ok (.return_, 1) := dk_177 (dk_at dksX7_gets_2 15 rfl rfl)
theorem dX7_gets_62 : decode cX7_gets 62 = .ok (.aload_n 1, 1) := dk_43 (dk_at dksX7_gets_2 16 rfl rfl)
theorem dX7_gets_63 : decode cX7_gets 63 = .ok (.getfield 187, 3) := dk_180 0 187 (dk_at dksX7_gets_2 17 rfl rfl)
theorem dX7_gets_66 : decode cX7_gets 66 = .ok (.aload_n 0, 1) := dk_42 (dk_at dksX7_gets_2 20 rfl rfl)
theorem dX7_gets_67 : decode cX7_gets 67 = .ok (.getfield 64, 3) := dk_180 0 64 (dk_at dksX7_gets_2 21 rfl rfl)
theorem dX7_gets_70 : decode cX7_gets 70 = .ok (.getfield 72, 3) := dk_180 0 72 (dk_at dksX7_gets_3 0 rfl rfl)
theorem dX7_gets_73 : decode cX7_gets 73 = .ok (.if_icmp .ge 13, 3) := dk_162 0 13 (dk_at dksX7_gets_3 3 rfl rfl)
theorem dX7_gets_76 : decode cX7_gets 76 = .ok (.aload_n 0, 1) := dk_42 (dk_at dksX7_gets_3 6 rfl rfl)
theorem dX7_gets_77 : decode cX7_gets 77 = .ok (.getfield 64, 3) := dk_180 0 64 (dk_at dksX7_gets_3 7 rfl rfl)
theorem dX7_gets_80 : decode cX7_gets 80 = .ok (.getfield 72, 3) := dk_180 0 72 (dk_at dksX7_gets_3 10 rfl rfl)
theorem dX7_gets_83 : decode cX7_gets 83 = .ok (.goto 63, 3) := dk_167 0 63 (dk_at dksX7_gets_3 13 rfl rfl)
theorem dX7_gets_86 : decode cX7_gets 86 = .ok (.aload_n 1, 1) := dk_43 (dk_at dksX7_gets_3 16 rfl rfl)
theorem dX7_gets_87 : decode cX7_gets 87 = .ok (.getfield 187, 3) := dk_180 0 187 (dk_at dksX7_gets_3 17 rfl rfl)
theorem dX7_gets_90 : decode cX7_gets 90 = .ok (.aload_n 0, 1) := dk_42 (dk_at dksX7_gets_3 20 rfl rfl)
theorem dX7_gets_91 : decode cX7_gets 91 = .ok (.invokevirtual 85, 3) := dk_182 0 85 (dk_at dksX7_gets_3 21 rfl rfl)
theorem dX7_gets_94 : decode cX7_gets 94 = .ok (.if_icmp .le 10, 3) := dk_164 0 10 (dk_at dksX7_gets_4 0 rfl rfl)
theorem dX7_gets_97 : decode cX7_gets 97 = .ok (.aload_n 0, 1) := dk_42 (dk_at dksX7_gets_4 3 rfl rfl)
theorem dX7_gets_98 : decode cX7_gets 98 = .ok (.invokevirtual 85, 3) := dk_182 0 85 (dk_at dksX7_gets_4 4 rfl rfl)
theorem dX7_gets_101 : decode cX7_gets 101 = .ok (.goto 45, 3) := dk_167 0 45 (dk_at dksX7_gets_4 7 rfl rfl)
theorem dX7_gets_104 : decode cX7_gets 104 = .ok (.aload_n 1, 1) := dk_43 (dk_at dksX7_gets_4 10 rfl rfl)
theorem dX7_gets_105 : decode cX7_gets 105 = .ok (.getfield 187, 3) := dk_180 0 187 (dk_at dksX7_gets_4 11 rfl rfl)
theorem dX7_gets_108 : decode cX7_gets 108 = .ok (.aload_n 0, 1) := dk_42 (dk_at dksX7_gets_4 14 rfl rfl)
theorem dX7_gets_109 : decode cX7_gets 109 = .ok (.getfield 64, 3) := dk_180 0 64 (dk_at dksX7_gets_4 15 rfl rfl)
theorem dX7_gets_112 : decode cX7_gets 112 = .ok (.getfield 72, 3) := dk_180 0 72 (dk_at dksX7_gets_4 18 rfl rfl)
theorem dX7_gets_115 : decode cX7_gets 115 = .ok (.if_icmp .le 30, 3) := dk_164 0 30 (dk_at dksX7_gets_4 21 rfl rfl)
theorem dX7_gets_118 : decode cX7_gets 118 = .ok (.aload_n 0, 1) := dk_42 (dk_at dksX7_gets_5 0 rfl rfl)
theorem dX7_gets_119 : decode cX7_gets 119 = .ok (.aload_n 1, 1) := dk_43 (dk_at dksX7_gets_5 1 rfl rfl)
theorem dX7_gets_120 : decode cX7_gets 120 = .ok (.getfield 187, 3) := dk_180 0 187 (dk_at dksX7_gets_5 2 rfl rfl)
theorem dX7_gets_123 : decode cX7_gets 123 = .ok (.invokevirtual 91, 3) := dk_182 0 91 (dk_at dksX7_gets_5 5 rfl rfl)
theorem dX7_gets_126 : decode cX7_gets 126 = .ok (.getfield 95, 3) := dk_180 0 95 (dk_at dksX7_gets_5 8 rfl rfl)
theorem dX7_gets_129 : decode cX7_gets 129 = .ok (.aload_n 1, 1) := dk_43 (dk_at dksX7_gets_5 11 rfl rfl)
theorem dX7_gets_130 : decode cX7_gets 130 = .ok (.getfield 191, 3) := dk_180 0 191 (dk_at dksX7_gets_5 12 rfl rfl)
theorem dX7_gets_133 : decode cX7_gets 133 = .ok (.if_icmp .eq 12, 3) := dk_159 0 12 (dk_at dksX7_gets_5 15 rfl rfl)
theorem dX7_gets_136 : decode cX7_gets 136 = .ok (.aload_n 1, 1) := dk_43 (dk_at dksX7_gets_5 18 rfl rfl)
theorem dX7_gets_137 : decode cX7_gets 137 = .ok (.getfield 187, 3) := dk_180 0 187 (dk_at dksX7_gets_5 19 rfl rfl)
theorem dX7_gets_140 : decode cX7_gets 140 = .ok (.iconst 1, 1) := dk_4 (dk_at dksX7_gets_5 22 rfl rfl)
theorem dX7_gets_141 : decode cX7_gets 141 = .ok (.isub, 1) := dk_100 (dk_at dksX7_gets_5 23 rfl rfl)
theorem dX7_gets_142 : decode cX7_gets 142 = .ok (.goto 4, 3) := dk_167 0 4 (dk_at dksX7_gets_6 0 rfl rfl)
theorem dX7_gets_145 : decode cX7_gets 145 = .ok (.iconst (-1), 1) := dk_2 (dk_at dksX7_gets_6 3 rfl rfl)
theorem dX7_gets_146 : decode cX7_gets 146 = .ok (.istore_n 2, 1) := dk_61 (dk_at dksX7_gets_6 4 rfl rfl)
theorem dX7_gets_147 : decode cX7_gets 147 = .ok (.iload_n 2, 1) := dk_28 (dk_at dksX7_gets_6 5 rfl rfl)
theorem dX7_gets_148 : decode cX7_gets 148 = .ok (.iconst (-1), 1) := dk_2 (dk_at dksX7_gets_6 6 rfl rfl)
theorem dX7_gets_149 : decode cX7_gets 149 = .ok (.if_icmp .eq 61, 3) := dk_159 0 61 (dk_at dksX7_gets_6 7 rfl rfl)
theorem dX7_gets_152 : decode cX7_gets 152 = .ok (.aload_n 0, 1) := dk_42 (dk_at dksX7_gets_6 10 rfl rfl)
theorem dX7_gets_153 : decode cX7_gets 153 = .ok (.getfield 3, 3) := dk_180 0 3 (dk_at dksX7_gets_6 11 rfl rfl)
theorem dX7_gets_156 : decode cX7_gets 156 = .ok (.dup, 1) := dk_89 (dk_at dksX7_gets_6 14 rfl rfl)
theorem dX7_gets_157 : decode cX7_gets 157 = .ok (.getfield 282, 3) := dk_180 1 26 (dk_at dksX7_gets_6 15 rfl rfl)
theorem dX7_gets_160 : decode cX7_gets 160 = .ok (.iconst 1, 1) := dk_4 (dk_at dksX7_gets_6 18 rfl rfl)
theorem dX7_gets_161 : decode cX7_gets 161 = .ok (.iadd, 1) := dk_96 (dk_at dksX7_gets_6 19 rfl rfl)
theorem dX7_gets_162 : decode cX7_gets 162 = .ok (.putfield 282, 3) := dk_181 1 26 (dk_at dksX7_gets_6 20 rfl rfl)
theorem dX7_gets_165 : decode cX7_gets 165 = .ok (.aload_n 0, 1) := dk_42 (dk_at dksX7_gets_6 23 rfl rfl)
theorem dX7_gets_166 : decode cX7_gets 166 = .ok (.getfield 3, 3) := dk_180 0 3 (dk_at dksX7_gets_7 0 rfl rfl)
theorem dX7_gets_169 : decode cX7_gets 169 = .ok (.bipush 107, 2) := dk_16 107 (dk_at dksX7_gets_7 3 rfl rfl)
theorem dX7_gets_171 : decode cX7_gets 171 = .ok (.aload_n 0, 1) := dk_42 (dk_at dksX7_gets_7 5 rfl rfl)
theorem dX7_gets_172 : decode cX7_gets 172 = .ok (.getfield 53, 3) := dk_180 0 53 (dk_at dksX7_gets_7 6 rfl rfl)
theorem dX7_gets_175 : decode cX7_gets 175 = .ok (.aload_n 1, 1) := dk_43 (dk_at dksX7_gets_7 9 rfl rfl)
theorem dX7_gets_176 : decode cX7_gets 176 = .ok (.getfield 276, 3) := dk_180 1 20 (dk_at dksX7_gets_7 10 rfl rfl)
theorem dX7_gets_179 : decode cX7_gets 179 = .ok (.invokevirtual 180, 3) := dk_182 0 180 (dk_at dksX7_gets_7 13 rfl rfl)
theorem dX7_gets_182 : decode cX7_gets 182 = .ok (.astore_n 3, 1) := dk_78 (dk_at dksX7_gets_7 16 rfl rfl)
theorem dX7_gets_183 : decode cX7_gets 183 = .ok (.aload_n 3, 1) := dk_45 (dk_at dksX7_gets_7 17 rfl rfl)
theorem dX7_gets_184 : decode cX7_gets 184 = .ok (.aload_n 0, 1) := dk_42 (dk_at dksX7_gets_7 18 rfl rfl)
theorem dX7_gets_185 : decode cX7_gets 185 = .ok (.getfield 126, 3) := dk_180 0 126 (dk_at dksX7_gets_7 19 rfl rfl)
theorem dX7_gets_188 : decode cX7_gets 188 = .ok (.putfield 184, 3) := dk_181 0 184 (dk_at dksX7_gets_8 0 rfl rfl)
theorem dX7_gets_191 : decode cX7_gets 191 = .ok (.aload_n 3, 1) := dk_45 (dk_at dksX7_gets_8 3 rfl rfl)
theorem dX7_gets_192 : decode cX7_gets 192 = .ok (.aload_n 1, 1) := dk_43 (dk_at dksX7_gets_8 4 rfl rfl)
theorem dX7_gets_193 : decode cX7_gets 193 = .ok (.getfield 216, 3) := dk_180 0 216 (dk_at dksX7_gets_8 5 rfl rfl)
theorem dX7_gets_196 : decode cX7_gets 196 = .ok (.putfield 216, 3) := dk_181 0 216 (dk_at dksX7_gets_8 8 rfl rfl)
theorem dX7_gets_199 : decode cX7_gets 199 = .ok (.aload_n 3, 1) := dk_45 (dk_at dksX7_gets_8 11 rfl rfl)
theorem dX7_gets_200 : decode cX7_gets 200 = .ok (.iconst 0, 1) := dk_3 (dk_at dksX7_gets_8 12 rfl rfl)
theorem dX7_gets_201 : decode cX7_gets 201 = .ok (.putfield 273, 3) := dk_181 1 17 (dk_at dksX7_gets_8 13 rfl rfl)
theorem dX7_gets_204 : decode cX7_gets 204 = .ok (.aload_n 3, 1) := dk_45 (dk_at dksX7_gets_8 16 rfl rfl)
theorem dX7_gets_205 : decode cX7_gets 205 = .ok (.iload_n 2, 1) := dk_28 (dk_at dksX7_gets_8 17 rfl rfl)
theorem dX7_gets_206 : decode cX7_gets 206 = .ok (.putfield 187, 3) := dk_181 0 187 (dk_at dksX7_gets_8 18 rfl rfl)
theorem dX7_gets_209 : decode cX7_gets 209 = .ok (.return_, 1) := dk_177 (dk_at dksX7_gets_8 21 rfl rfl)
theorem dX7_gets_210 : decode cX7_gets 210 = .ok (.iconst 0, 1) := dk_3 (dk_at dksX7_gets_8 22 rfl rfl)
theorem dX7_gets_211 : decode cX7_gets 211 = .ok (.istore_n 3, 1) := dk_62 (dk_at dksX7_gets_8 23 rfl rfl)
theorem dX7_gets_212 : decode cX7_gets 212 = .ok (.iload_n 3, 1) := dk_29 (dk_at dksX7_gets_9 0 rfl rfl)
theorem dX7_gets_213 : decode cX7_gets 213 = .ok (.aload_n 1, 1) := dk_43 (dk_at dksX7_gets_9 1 rfl rfl)
theorem dX7_gets_214 : decode cX7_gets 214 = .ok (.getfield 226, 3) := dk_180 0 226 (dk_at dksX7_gets_9 2 rfl rfl)
theorem dX7_gets_217 : decode cX7_gets 217 = .ok (.invokevirtual 75, 3) := dk_182 0 75 (dk_at dksX7_gets_9 5 rfl rfl)
theorem dX7_gets_220 : decode cX7_gets 220 = .ok (.if_icmp .ge 97, 3) := dk_162 0 97 (dk_at dksX7_gets_9 8 rfl rfl)
theorem dX7_gets_223 : decode cX7_gets 223 = .ok (.aload_n 1, 1) := dk_43 (dk_at dksX7_gets_9 11 rfl rfl)
theorem dX7_gets_224 : decode cX7_gets 224 = .ok (.getfield 187, 3) := dk_180 0 187 (dk_at dksX7_gets_9 12 rfl rfl)
theorem dX7_gets_227 : decode cX7_gets 227 = .ok (.iconst 1, 1) := dk_4 (dk_at dksX7_gets_9 15 rfl rfl)
theorem dX7_gets_228 : decode cX7_gets 228 = .ok (.iadd, 1) := dk_96 (dk_at dksX7_gets_9 16 rfl rfl)
theorem dX7_gets_229 : decode cX7_gets 229 = .ok (.iload_n 3, 1) := dk_29 (dk_at dksX7_gets_9 17 rfl rfl)
theorem dX7_gets_230 : decode cX7_gets 230 = .ok (.iadd, 1) := dk_96 (dk_at dksX7_gets_9 18 rfl rfl)
theorem dX7_gets_231 : decode cX7_gets 231 = .ok (.istore 4, 2) := dk_54 4 (dk_at dksX7_gets_9 19 rfl rfl)
theorem dX7_gets_233 : decode cX7_gets 233 = .ok (.aload_n 0, 1) := dk_42 (dk_at dksX7_gets_9 21 rfl rfl)
theorem dX7_gets_234 : decode cX7_gets 234 = .ok (.iload 4, 2) := dk_21 4 (dk_at dksX7_gets_9 22 rfl rfl)
theorem dX7_gets_236 : decode cX7_gets 236 = .ok (.invokevirtual 298, 3) := dk_182 1 42 (dk_at dksX7_gets_10 0 rfl rfl)
theorem dX7_gets_239 : decode cX7_gets 239 = .ok (.ifCond .eq 35, 3) := dk_153 0 35 (dk_at dksX7_gets_10 3 rfl rfl)
theorem dX7_gets_242 : decode cX7_gets 242 = .ok (.aload_n 0, 1) := dk_42 (dk_at dksX7_gets_10 6 rfl rfl)
theorem dX7_gets_243 : decode cX7_gets 243 = .ok (.iload 4, 2) := dk_21 4 (dk_at dksX7_gets_10 7 rfl rfl)
theorem dX7_gets_245 : decode cX7_gets 245 = .ok (.invokevirtual 91, 3) := dk_182 0 91 (dk_at dksX7_gets_10 9 rfl rfl)
theorem dX7_gets_248 : decode cX7_gets 248 = .ok (.getfield 95, 3) := dk_180 0 95 (dk_at dksX7_gets_10 12 rfl rfl)
theorem dX7_gets_251 : decode cX7_gets 251 = .ok (.aload_n 1, 1) := dk_43 (dk_at dksX7_gets_10 15 rfl rfl)
theorem dX7_gets_252 : decode cX7_gets 252 = .ok (.getfield 226, 3) := dk_180 0 226 (dk_at dksX7_gets_10 16 rfl rfl)
theorem dX7_gets_255 : decode cX7_gets 255 = .ok (.iload_n 3, 1) := dk_29 (dk_at dksX7_gets_10 19 rfl rfl)
theorem dX7_gets_256 : decode cX7_gets 256 = .ok (.invokevirtual 79, 3) := dk_182 0 79 (dk_at dksX7_gets_10 20 rfl rfl)
theorem dX7_gets_259 : decode cX7_gets 259 = .ok (.checkcast 83, 3) := dk_192 0 83 (dk_at dksX7_gets_11 0 rfl rfl)
theorem dX7_gets_262 : decode cX7_gets 262 = .ok (.getfield 95, 3) := dk_180 0 95 (dk_at dksX7_gets_11 3 rfl rfl)
theorem dX7_gets_265 : decode cX7_gets 265 = .ok (.if_icmp .eq 9, 3) := dk_159 0 9 (dk_at dksX7_gets_11 6 rfl rfl)
theorem dX7_gets_268 : decode cX7_gets 268 = .ok (.aload_n 0, 1) := dk_42 (dk_at dksX7_gets_11 9 rfl rfl)
theorem dX7_gets_269 : decode cX7_gets 269 = .ok (.iload 4, 2) := dk_21 4 (dk_at dksX7_gets_11 10 rfl rfl)
theorem dX7_gets_271 : decode cX7_gets 271 = .ok (.invokevirtual 301, 3) := dk_182 1 45 (dk_at dksX7_gets_11 12 rfl rfl)
theorem dX7_gets_274 : decode cX7_gets 274 = .ok (.iload 4, 2) := dk_21 4 (dk_at dksX7_gets_11 15 rfl rfl)
theorem dX7_gets_276 : decode cX7_gets 276 = .ok (.aload_n 0, 1) := dk_42 (dk_at dksX7_gets_11 17 rfl rfl)
theorem dX7_gets_277 : decode cX7_gets 277 = .ok (.invokevirtual 85, 3) := dk_182 0 85 (dk_at dksX7_gets_11 18 rfl rfl)
theorem dX7_gets_280 : decode cX7_gets 280 = .ok (.if_icmp .le 28, 3) := dk_164 0 28 (dk_at dksX7_gets_11 21 rfl rfl)
theorem dX7_gets_283 : decode cX7_gets 283 = .ok (.aload_n 0, 1) := dk_42 (dk_at dksX7_gets_12 0 rfl rfl)
theorem dX7_gets_284 : decode cX7_gets 284 = .ok (.getfield 30, 3) := dk_180 0 30 (dk_at dksX7_gets_12 1 rfl rfl)
theorem dX7_gets_287 : decode cX7_gets 287 = .ok (.aload_n 1, 1) := dk_43 (dk_at dksX7_gets_12 4 rfl rfl)
theorem dX7_gets_288 : decode cX7_gets 288 = .ok (.getfield 226, 3) := dk_180 0 226 (dk_at dksX7_gets_12 5 rfl rfl)
theorem dX7_gets_291 : decode cX7_gets 291 = .ok (.iload_n 3, 1) := dk_29 (dk_at dksX7_gets_12 8 rfl rfl)
theorem dX7_gets_292 : decode cX7_gets 292 = .ok (.invokevirtual 79, 3) := dk_182 0 79 (dk_at dksX7_gets_12 9 rfl rfl)
theorem dX7_gets_295 : decode cX7_gets 295 = .ok (.checkcast 83, 3) := dk_192 0 83 (dk_at dksX7_gets_12 12 rfl rfl)
theorem dX7_gets_298 : decode cX7_gets 298 = .ok (.invokevirtual 204, 3) := dk_182 0 204 (dk_at dksX7_gets_12 15 rfl rfl)
theorem dX7_gets_301 : decode cX7_gets 301 = .ok (.ifCond .eq 7, 3) := dk_153 0 7 (dk_at dksX7_gets_12 18 rfl rfl)
theorem dX7_gets_304 : decode cX7_gets 304 = .ok (.iconst 1, 1) := dk_4 (dk_at dksX7_gets_12 21 rfl rfl)
theorem dX7_gets_305 : decode cX7_gets 305 = .ok (.goto 4, 3) := dk_167 0 4 (dk_at dksX7_gets_13 0 rfl rfl)
theorem dX7_gets_308 : decode cX7_gets 308 = .ok (.iconst 0, 1) := dk_3 (dk_at dksX7_gets_13 3 rfl rfl)
theorem dX7_gets_309 : decode cX7_gets 309 = .ok (.istore 5, 2) := dk_54 5 (dk_at dksX7_gets_13 4 rfl rfl)
theorem dX7_gets_311 : decode cX7_gets 311 = .ok (.iinc 3 1, 3) := dk_132 3 1 (dk_at dksX7_gets_13 6 rfl rfl)
theorem dX7_gets_314 : decode cX7_gets 314 = .ok (.goto (-102), 3) := dk_167 255 154 (dk_at dksX7_gets_13 9 rfl rfl)
theorem dX7_gets_317 : decode cX7_gets 317 = .ok (.aload_n 0, 1) := dk_42 (dk_at dksX7_gets_13 12 rfl rfl)
theorem dX7_gets_318 : decode cX7_gets 318 = .ok (.aload_n 0, 1) := dk_42 (dk_at dksX7_gets_13 13 rfl rfl)
theorem dX7_gets_319 : decode cX7_gets 319 = .ok (.getfield 127, 3) := dk_180 0 127 (dk_at dksX7_gets_13 14 rfl rfl)
theorem dX7_gets_322 : decode cX7_gets 322 = .ok (.aload_n 1, 1) := dk_43 (dk_at dksX7_gets_13 17 rfl rfl)
theorem dX7_gets_323 : decode cX7_gets 323 = .ok (.getfield 187, 3) := dk_180 0 187 (dk_at dksX7_gets_13 18 rfl rfl)
theorem dX7_gets_326 : decode cX7_gets 326 = .ok (.aload_n 1, 1) := dk_43 (dk_at dksX7_gets_13 21 rfl rfl)
theorem dX7_gets_327 : decode cX7_gets 327 = .ok (.getfield 226, 3) := dk_180 0 226 (dk_at dksX7_gets_14 0 rfl rfl)
theorem dX7_gets_330 : decode cX7_gets 330 = .ok (.invokevirtual 75, 3) := dk_182 0 75 (dk_at dksX7_gets_14 3 rfl rfl)
theorem dX7_gets_333 : decode cX7_gets 333 = .ok (.iadd, 1) := dk_96 (dk_at dksX7_gets_14 6 rfl rfl)
theorem dX7_gets_334 : decode cX7_gets 334 = .ok (.invokestatic 237, 3) := dk_184 0 237 (dk_at dksX7_gets_14 7 rfl rfl)
theorem dX7_gets_337 : decode cX7_gets 337 = .ok (.putfield 127, 3) := dk_181 0 127 (dk_at dksX7_gets_14 10 rfl rfl)
theorem dX7_gets_340 : decode cX7_gets 340 = .ok (.aload_n 0, 1) := dk_42 (dk_at dksX7_gets_14 13 rfl rfl)
theorem dX7_gets_341 : decode cX7_gets 341 = .ok (.aload_n 0, 1) := dk_42 (dk_at dksX7_gets_14 14 rfl rfl)
theorem dX7_gets_342 : decode cX7_gets 342 = .ok (.getfield 220, 3) := dk_180 0 220 (dk_at dksX7_gets_14 15 rfl rfl)
theorem dX7_gets_345 : decode cX7_gets 345 = .ok (.aload_n 1, 1) := dk_43 (dk_at dksX7_gets_14 18 rfl rfl)
theorem dX7_gets_346 : decode cX7_gets 346 = .ok (.getfield 187, 3) := dk_180 0 187 (dk_at dksX7_gets_14 19 rfl rfl)
theorem dX7_gets_349 : decode cX7_gets 349 = .ok (.aload_n 1, 1) := dk_43 (dk_at dksX7_gets_14 22 rfl rfl)
theorem dX7_gets_350 : decode cX7_gets 350 = .ok (.getfield 226, 3) := dk_180 0 226 (dk_at dksX7_gets_15 0 rfl rfl)
theorem dX7_gets_353 : decode cX7_gets 353 = .ok (.invokevirtual 75, 3) := dk_182 0 75 (dk_at dksX7_gets_15 3 rfl rfl)
theorem dX7_gets_356 : decode cX7_gets 356 = .ok (.iadd, 1) := dk_96 (dk_at dksX7_gets_15 6 rfl rfl)
theorem dX7_gets_357 : decode cX7_gets 357 = .ok (.aload_n 1, 1) := dk_43 (dk_at dksX7_gets_15 7 rfl rfl)
theorem dX7_gets_358 : decode cX7_gets 358 = .ok (.getfield 223, 3) := dk_180 0 223 (dk_at dksX7_gets_15 8 rfl rfl)
theorem dX7_gets_361 : decode cX7_gets 361 = .ok (.invokestatic 304, 3) := dk_184 1 48 (dk_at dksX7_gets_15 11 rfl rfl)
theorem dX7_gets_364 : decode cX7_gets 364 = .ok (.invokestatic 237, 3) := dk_184 0 237 (dk_at dksX7_gets_15 14 rfl rfl)
theorem dX7_gets_367 : decode cX7_gets 367 = .ok (.invokevirtual 246, 3) := dk_182 0 246 (dk_at dksX7_gets_15 17 rfl rfl)
theorem dX7_gets_370 : decode cX7_gets 370 = .ok (.aload_n 0, 1) := dk_42 (dk_at dksX7_gets_15 20 rfl rfl)
theorem dX7_gets_371 : decode cX7_gets 371 = .ok (.invokevirtual 295, 3) := dk_182 1 39 (dk_at dksX7_gets_15 21 rfl rfl)
theorem dX7_gets_374 : decode cX7_gets 374 = .ok (.return_, 1) := dk_177 (dk_at dksX7_gets_16 0 rfl rfl)
abbrev cX7_getsSnapshot : ByteArray := prog_22_method_28_code
def yX7_getsSnapshot : MethodName := ⟨RX7, "getsSnapshot", "(LQuorumAlmanacModel$Snapshot;)V"⟩
def dkwX7_getsSnapshot_2 : List UInt8 := [182, 1, 55, 181, 0, 68, 42, 42, 180, 0, 127, 43, 180, 0, 72, 184, 0, 237, 181, 0, 127, 177]
abbrev dktX7_getsSnapshot_2 : List UInt8 := dkwX7_getsSnapshot_2 ++ []
def dkwX7_getsSnapshot_1 : List UInt8 := [181, 0, 30, 42, 43, 180, 0, 72, 181, 0, 243, 42, 43, 180, 0, 72, 181, 0, 220, 42, 43, 180, 1, 54]
abbrev dktX7_getsSnapshot_1 : List UInt8 := dkwX7_getsSnapshot_1 ++ dktX7_getsSnapshot_2
def dkwX7_getsSnapshot_0 : List UInt8 := [43, 180, 0, 72, 42, 180, 0, 220, 164, 0, 46, 42, 43, 181, 0, 64, 42, 187, 0, 27, 89, 183, 0, 29]
abbrev dktX7_getsSnapshot_0 : List UInt8 := dkwX7_getsSnapshot_0 ++ dktX7_getsSnapshot_1
theorem dksX7_getsSnapshot_0 : cX7_getsSnapshot.data.toList.drop 0 = dktX7_getsSnapshot_0 := by decide +kernel
theorem dksX7_getsSnapshot_1 : cX7_getsSnapshot.data.toList.drop 24 = dktX7_getsSnapshot_1 := dk_seg dksX7_getsSnapshot_0 24 rfl rfl
theorem dksX7_getsSnapshot_2 : cX7_getsSnapshot.data.toList.drop 48 = dktX7_getsSnapshot_2 := dk_seg dksX7_getsSnapshot_1 24 rfl rfl
theorem dX7_getsSnapshot_0 : decode cX7_getsSnapshot 0 = .ok (.aload_n 1, 1) := dk_43 (dk_at dksX7_getsSnapshot_0 0 rfl rfl)
theorem dX7_getsSnapshot_1 : decode cX7_getsSnapshot 1 = .ok (.getfield 72, 3) := dk_180 0 72 (dk_at dksX7_getsSnapshot_0 1 rfl rfl)
theorem dX7_getsSnapshot_4 : decode cX7_getsSnapshot 4 = .ok (.aload_n 0, 1) := dk_42 (dk_at dksX7_getsSnapshot_0 4 rfl rfl)
theorem dX7_getsSnapshot_5 : decode cX7_getsSnapshot 5 = .ok (.getfield 220, 3) := dk_180 0 220 (dk_at dksX7_getsSnapshot_0 5 rfl rfl)
theorem dX7_getsSnapshot_8 : decode cX7_getsSnapshot 8 = .ok (.if_icmp .le 46, 3) := dk_164 0 46 (dk_at dksX7_getsSnapshot_0 8 rfl rfl)
theorem dX7_getsSnapshot_11 : decode cX7_getsSnapshot 11 = .ok (.aload_n 0, 1) := dk_42 (dk_at dksX7_getsSnapshot_0 11 rfl rfl)
theorem dX7_getsSnapshot_12 : decode cX7_getsSnapshot 12 = .ok (.aload_n 1, 1) := dk_43 (dk_at dksX7_getsSnapshot_0 12 rfl rfl)
theorem dX7_getsSnapshot_13 : decode cX7_getsSnapshot 13 = .ok (.putfield 64, 3) := dk_181 0 64 (dk_at dksX7_getsSnapshot_0 13 rfl rfl)
theorem dX7_getsSnapshot_16 : decode cX7_getsSnapshot 16 = .ok (.aload_n 0, 1) := dk_42 (dk_at dksX7_getsSnapshot_0 16 rfl rfl)
theorem dX7_getsSnapshot_17 : decode cX7_getsSnapshot 17 = .ok (.new 27, 3) := dk_187 0 27 (dk_at dksX7_getsSnapshot_0 17 rfl rfl)
theorem dX7_getsSnapshot_20 : decode cX7_getsSnapshot 20 = .ok (.dup, 1) := dk_89 (dk_at dksX7_getsSnapshot_0 20 rfl rfl)
theorem dX7_getsSnapshot_21 : decode cX7_getsSnapshot 21 = .ok (.invokespecial 29, 3) := dk_183 0 29 (dk_at dksX7_getsSnapshot_0 21 rfl rfl)
theorem dX7_getsSnapshot_24 : decode cX7_getsSnapshot 24 = .ok (.putfield 30, 3) := dk_181 0 30 (dk_at dksX7_getsSnapshot_1 0 rfl rfl)
theorem dX7_getsSnapshot_27 : decode cX7_getsSnapshot 27 = .ok (.aload_n 0, 1) := dk_42 (dk_at dksX7_getsSnapshot_1 3 rfl rfl)
theorem dX7_getsSnapshot_28 : decode cX7_getsSnapshot 28 = .ok (.aload_n 1, 1) := dk_43 (dk_at dksX7_getsSnapshot_1 4 rfl rfl)
theorem dX7_getsSnapshot_29 : decode cX7_getsSnapshot 29 = .ok (.getfield 72, 3) := dk_180 0 72 (dk_at dksX7_getsSnapshot_1 5 rfl rfl)
theorem dX7_getsSnapshot_32 : decode cX7_getsSnapshot 32 = .ok (.putfield 243, 3) := dk_181 0 243 (dk_at dksX7_getsSnapshot_1 8 rfl rfl)
theorem dX7_getsSnapshot_35 : decode cX7_getsSnapshot 35 = .ok (.aload_n 0, 1) := dk_42 (dk_at dksX7_getsSnapshot_1 11 rfl rfl)
theorem dX7_getsSnapshot_36 : decode cX7_getsSnapshot 36 = .ok (.aload_n 1, 1) := dk_43 (dk_at dksX7_getsSnapshot_1 12 rfl rfl)
theorem dX7_getsSnapshot_37 : decode cX7_getsSnapshot 37 = .ok (.getfield 72, 3) := dk_180 0 72 (dk_at dksX7_getsSnapshot_1 13 rfl rfl)
theorem dX7_getsSnapshot_40 : decode cX7_getsSnapshot 40 = .ok (.putfield 220, 3) := dk_181 0 220 (dk_at dksX7_getsSnapshot_1 16 rfl rfl)
theorem dX7_getsSnapshot_43 : decode cX7_getsSnapshot 43 = .ok (.aload_n 0, 1) := dk_42 (dk_at dksX7_getsSnapshot_1 19 rfl rfl)
theorem dX7_getsSnapshot_44 : decode cX7_getsSnapshot 44 = .ok (.aload_n 1, 1) := dk_43 (dk_at dksX7_getsSnapshot_1 20 rfl rfl)
theorem dX7_getsSnapshot_45 : decode cX7_getsSnapshot 45 = .ok (.getfield 310, 3) := dk_180 1 54 (dk_at dksX7_getsSnapshot_1 21 rfl rfl)
theorem dX7_getsSnapshot_48 : decode cX7_getsSnapshot 48 = .ok (.invokevirtual 311, 3) := dk_182 1 55 (dk_at dksX7_getsSnapshot_2 0 rfl rfl)
theorem dX7_getsSnapshot_51 : decode cX7_getsSnapshot 51 = .ok (.putfield 68, 3) := dk_181 0 68 (dk_at dksX7_getsSnapshot_2 3 rfl rfl)
theorem dX7_getsSnapshot_54 : decode cX7_getsSnapshot 54 = .ok (.aload_n 0, 1) := dk_42 (dk_at dksX7_getsSnapshot_2 6 rfl rfl)
theorem dX7_getsSnapshot_55 : decode cX7_getsSnapshot 55 = .ok (.aload_n 0, 1) := dk_42 (dk_at dksX7_getsSnapshot_2 7 rfl rfl)
theorem dX7_getsSnapshot_56 : decode cX7_getsSnapshot 56 = .ok (.getfield 127, 3) := dk_180 0 127 (dk_at dksX7_getsSnapshot_2 8 rfl rfl)
theorem dX7_getsSnapshot_59 : decode cX7_getsSnapshot 59 = .ok (.aload_n 1, 1) := dk_43 (dk_at dksX7_getsSnapshot_2 11 rfl rfl)
theorem dX7_getsSnapshot_60 : decode cX7_getsSnapshot 60 = .ok (.getfield 72, 3) := dk_180 0 72 (dk_at dksX7_getsSnapshot_2 12 rfl rfl)
theorem dX7_getsSnapshot_63 : decode cX7_getsSnapshot 63 = .ok (.invokestatic 237, 3) := dk_184 0 237 (dk_at dksX7_getsSnapshot_2 15 rfl rfl)
theorem dX7_getsSnapshot_66 : decode cX7_getsSnapshot 66 = .ok (.putfield 127, 3) := dk_181 0 127 (dk_at dksX7_getsSnapshot_2 18 rfl rfl)
theorem dX7_getsSnapshot_69 : decode cX7_getsSnapshot 69 = .ok (.return_, 1) := dk_177 (dk_at dksX7_getsSnapshot_2 21 rfl rfl)
theorem q55 : (Jvm.Cond.initialized "QuorumAlmanacModel$Node") ∈ lw_all := lw_g (lw_at lw_m1 11 rfl) rfl
theorem q473 : (Jvm.Cond.selects "QuorumAlmanacModel$Node" ({ cls := "java/lang/Object", name := "hashCode", desc := "()I" } : Jvm.MethodName) ({ cls := "java/lang/Object", name := "hashCode", desc := "()I" } : Jvm.MethodName)) ∈ lw_all := lw_g (lw_at lw_m2 189 rfl) rfl
theorem q575 : (Jvm.Cond.selects "QuorumAlmanacModel$Node" ({ cls := "java/lang/Object", name := "getClass", desc := "()Ljava/lang/Class;" } : Jvm.MethodName) ({ cls := "java/lang/Object", name := "getClass", desc := "()Ljava/lang/Class;" } : Jvm.MethodName)) ∈ lw_all := lw_g (lw_at lw_m3 51 rfl) rfl
theorem q657 : (Jvm.Cond.selects "QuorumAlmanacModel$Node" ({ cls := "java/lang/Object", name := "equals", desc := "(Ljava/lang/Object;)Z" } : Jvm.MethodName) ({ cls := "java/lang/Object", name := "equals", desc := "(Ljava/lang/Object;)Z" } : Jvm.MethodName)) ∈ lw_all := lw_g (lw_at lw_m3 133 rfl) rfl
theorem q1940 : (Jvm.Cond.instantiable "QuorumAlmanacModel$Node" (22 : Nat)) ∈ lw_all := lw_g (lw_at lw_m8 216 rfl) rfl
theorem q1942 : (Jvm.Cond.instanceMethod ({ cls := "QuorumAlmanacModel$Node", name := "<init>", desc := "(LQuorumAlmanacModel;II)V" } : Jvm.MethodName)) ∈ lw_all := lw_g (lw_at lw_m8 218 rfl) rfl
theorem q1943 : (Jvm.Cond.code ({ cls := "QuorumAlmanacModel$Node", name := "<init>", desc := "(LQuorumAlmanacModel;II)V" } : Jvm.MethodName) prog_22_method_1_code (4 : Nat) (Option.none : Option Jvm.ClassFile.FieldType)) ∈ lw_all := lw_g (lw_at lw_m8 219 rfl) rfl
theorem q1944 : (Jvm.Cond.methodLink "QuorumAlmanacModel$Node" (9 : Nat) ({ cls := "java/lang/Object", name := "<init>", desc := "()V" } : Jvm.MethodName)) ∈ lw_all := lw_g (lw_at lw_m8 220 rfl) rfl
theorem q1945 : (Jvm.Cond.classLink "QuorumAlmanacModel$Node" (27 : Nat) "java/util/ArrayList") ∈ lw_all := lw_g (lw_at lw_m8 221 rfl) rfl
theorem q1946 : (Jvm.Cond.methodLink "QuorumAlmanacModel$Node" (29 : Nat) ({ cls := "java/util/ArrayList", name := "<init>", desc := "()V" } : Jvm.MethodName)) ∈ lw_all := lw_g (lw_at lw_m8 222 rfl) rfl
theorem q1947 : (Jvm.Cond.classLink "QuorumAlmanacModel$Node" (56 : Nat) "QuorumAlmanacModel$Snapshot") ∈ lw_all := lw_g (lw_at lw_m8 223 rfl) rfl
theorem q1949 : (Jvm.Cond.classLink "QuorumAlmanacModel$Node" (58 : Nat) "QuorumAlmanacModel$Store") ∈ lw_all := lw_g (lw_at lw_m8 225 rfl) rfl
theorem q1951 : (Jvm.Cond.methodLink "QuorumAlmanacModel$Node" (60 : Nat) ({ cls := "QuorumAlmanacModel$Store", name := "<init>", desc := "()V" } : Jvm.MethodName)) ∈ lw_all := lw_g (lw_at lw_m8 227 rfl) rfl
theorem q1956 : (Jvm.Cond.fieldLinkNest "QuorumAlmanacModel$Node" (256 : Nat) "QuorumAlmanacModel$Store" "values" "[I" "QuorumAlmanacModel") ∈ lw_tbl := lw_at lw_m8 232 rfl
theorem q1965 : (Jvm.Cond.methodLink "QuorumAlmanacModel$Node" (61 : Nat) ({ cls := "QuorumAlmanacModel$Snapshot", name := "<init>", desc := "(IIIILQuorumAlmanacModel$Store;)V" } : Jvm.MethodName)) ∈ lw_all := lw_g (lw_at lw_m9 1 rfl) rfl
theorem q1970 : (Jvm.Cond.fieldLinkNest "QuorumAlmanacModel$Node" (72 : Nat) "QuorumAlmanacModel$Snapshot" "index" "I" "QuorumAlmanacModel") ∈ lw_tbl := lw_at lw_m9 6 rfl
theorem q1973 : (Jvm.Cond.fieldLinkNest "QuorumAlmanacModel$Node" (88 : Nat) "QuorumAlmanacModel$Snapshot" "term" "I" "QuorumAlmanacModel") ∈ lw_tbl := lw_at lw_m9 9 rfl
theorem q1975 : (Jvm.Cond.fieldLinkNest "QuorumAlmanacModel$Node" (103 : Nat) "QuorumAlmanacModel$Snapshot" "old" "I" "QuorumAlmanacModel") ∈ lw_tbl := lw_at lw_m9 11 rfl
theorem q1977 : (Jvm.Cond.fieldLinkNest "QuorumAlmanacModel$Node" (109 : Nat) "QuorumAlmanacModel$Snapshot" "fresh" "I" "QuorumAlmanacModel") ∈ lw_tbl := lw_at lw_m9 13 rfl
theorem q1979 : (Jvm.Cond.fieldLinkNest "QuorumAlmanacModel$Node" (310 : Nat) "QuorumAlmanacModel$Snapshot" "store" "LQuorumAlmanacModel$Store;" "QuorumAlmanacModel") ∈ lw_tbl := lw_at lw_m9 15 rfl
theorem q1991 : (Jvm.Cond.fieldLink "QuorumAlmanacModel$Node" (53 : Nat) "QuorumAlmanacModel$Node" "number" "I") ∈ lw_all := lw_g (lw_at lw_m9 27 rfl) rfl
theorem q1993 : (Jvm.Cond.fieldLink "QuorumAlmanacModel$Node" (160 : Nat) "QuorumAlmanacModel$Node" "clock" "I") ∈ lw_all := lw_g (lw_at lw_m9 29 rfl) rfl
theorem q1994 : (Jvm.Cond.fieldLink "QuorumAlmanacModel$Node" (126 : Nat) "QuorumAlmanacModel$Node" "term" "I") ∈ lw_all := lw_g (lw_at lw_m9 30 rfl) rfl
theorem q1996 : (Jvm.Cond.fieldLink "QuorumAlmanacModel$Node" (15 : Nat) "QuorumAlmanacModel$Node" "vote" "I") ∈ lw_all := lw_g (lw_at lw_m9 32 rfl) rfl
theorem q1998 : (Jvm.Cond.fieldLink "QuorumAlmanacModel$Node" (19 : Nat) "QuorumAlmanacModel$Node" "role" "C") ∈ lw_all := lw_g (lw_at lw_m9 34 rfl) rfl
theorem q2000 : (Jvm.Cond.fieldLink "QuorumAlmanacModel$Node" (23 : Nat) "QuorumAlmanacModel$Node" "runs" "Z") ∈ lw_all := lw_g (lw_at lw_m9 36 rfl) rfl
theorem q2002 : (Jvm.Cond.fieldLink "QuorumAlmanacModel$Node" (64 : Nat) "QuorumAlmanacModel$Node" "snapshot" "LQuorumAlmanacModel$Snapshot;") ∈ lw_all := lw_g (lw_at lw_m9 38 rfl) rfl
theorem q2004 : (Jvm.Cond.fieldLink "QuorumAlmanacModel$Node" (30 : Nat) "QuorumAlmanacModel$Node" "log" "Ljava/util/ArrayList;") ∈ lw_all := lw_g (lw_at lw_m9 40 rfl) rfl
theorem q2006 : (Jvm.Cond.fieldLink "QuorumAlmanacModel$Node" (243 : Nat) "QuorumAlmanacModel$Node" "synced" "I") ∈ lw_all := lw_g (lw_at lw_m9 42 rfl) rfl
theorem q2009 : (Jvm.Cond.fieldLink "QuorumAlmanacModel$Node" (220 : Nat) "QuorumAlmanacModel$Node" "committed" "I") ∈ lw_all := lw_g (lw_at lw_m9 45 rfl) rfl
theorem q2010 : (Jvm.Cond.fieldLink "QuorumAlmanacModel$Node" (68 : Nat) "QuorumAlmanacModel$Node" "store" "LQuorumAlmanacModel$Store;") ∈ lw_all := lw_g (lw_at lw_m9 46 rfl) rfl
theorem q2012 : (Jvm.Cond.fieldLink "QuorumAlmanacModel$Node" (174 : Nat) "QuorumAlmanacModel$Node" "heard" "I") ∈ lw_all := lw_g (lw_at lw_m9 48 rfl) rfl
theorem q2014 : (Jvm.Cond.fieldLink "QuorumAlmanacModel$Node" (34 : Nat) "QuorumAlmanacModel$Node" "contact" "I") ∈ lw_all := lw_g (lw_at lw_m9 50 rfl) rfl
theorem q2016 : (Jvm.Cond.fieldLink "QuorumAlmanacModel$Node" (37 : Nat) "QuorumAlmanacModel$Node" "leader" "I") ∈ lw_all := lw_g (lw_at lw_m9 52 rfl) rfl
theorem q2017 : (Jvm.Cond.fieldLink "QuorumAlmanacModel$Node" (127 : Nat) "QuorumAlmanacModel$Node" "agreed" "I") ∈ lw_all := lw_g (lw_at lw_m9 53 rfl) rfl
theorem q2018 : (Jvm.Cond.fieldLink "QuorumAlmanacModel$Node" (130 : Nat) "QuorumAlmanacModel$Node" "lastRound" "I") ∈ lw_all := lw_g (lw_at lw_m9 54 rfl) rfl
theorem q2019 : (Jvm.Cond.fieldLink "QuorumAlmanacModel$Node" (177 : Nat) "QuorumAlmanacModel$Node" "voters" "I") ∈ lw_all := lw_g (lw_at lw_m9 55 rfl) rfl
theorem q2020 : (Jvm.Cond.fieldLink "QuorumAlmanacModel$Node" (40 : Nat) "QuorumAlmanacModel$Node" "next" "[I") ∈ lw_all := lw_g (lw_at lw_m9 56 rfl) rfl
theorem q2021 : (Jvm.Cond.fieldLink "QuorumAlmanacModel$Node" (44 : Nat) "QuorumAlmanacModel$Node" "matched" "[I") ∈ lw_all := lw_g (lw_at lw_m9 57 rfl) rfl
theorem q2022 : (Jvm.Cond.fieldLink "QuorumAlmanacModel$Node" (47 : Nat) "QuorumAlmanacModel$Node" "answered" "[I") ∈ lw_all := lw_g (lw_at lw_m9 58 rfl) rfl
theorem q2023 : (Jvm.Cond.fieldLink "QuorumAlmanacModel$Node" (50 : Nat) "QuorumAlmanacModel$Node" "begun" "Ljava/util/ArrayList;") ∈ lw_all := lw_g (lw_at lw_m9 59 rfl) rfl
theorem q2025 : (Jvm.Cond.fieldLink "QuorumAlmanacModel$Node" (3 : Nat) "QuorumAlmanacModel$Node" "this$0" "LQuorumAlmanacModel;") ∈ lw_all := lw_g (lw_at lw_m9 61 rfl) rfl
theorem q2026 : (Jvm.Cond.laysFinal "QuorumAlmanacModel$Node" "QuorumAlmanacModel$Node" "number" "I") ∈ lw_all := lw_g (lw_at lw_m9 62 rfl) rfl
theorem q2027 : (Jvm.Cond.soleField "QuorumAlmanacModel$Node" "number") ∈ lw_all := lw_g (lw_at lw_m9 63 rfl) rfl
theorem q2028 : (Jvm.Cond.lays "QuorumAlmanacModel$Node" "QuorumAlmanacModel$Node" "clock" "I") ∈ lw_all := lw_g (lw_at lw_m9 64 rfl) rfl
theorem q2029 : (Jvm.Cond.soleField "QuorumAlmanacModel$Node" "clock") ∈ lw_all := lw_g (lw_at lw_m9 65 rfl) rfl
theorem q2030 : (Jvm.Cond.lays "QuorumAlmanacModel$Node" "QuorumAlmanacModel$Node" "term" "I") ∈ lw_all := lw_g (lw_at lw_m9 66 rfl) rfl
theorem q2031 : (Jvm.Cond.soleField "QuorumAlmanacModel$Node" "term") ∈ lw_all := lw_g (lw_at lw_m9 67 rfl) rfl
theorem q2032 : (Jvm.Cond.lays "QuorumAlmanacModel$Node" "QuorumAlmanacModel$Node" "vote" "I") ∈ lw_all := lw_g (lw_at lw_m9 68 rfl) rfl
theorem q2033 : (Jvm.Cond.soleField "QuorumAlmanacModel$Node" "vote") ∈ lw_all := lw_g (lw_at lw_m9 69 rfl) rfl
theorem q2034 : (Jvm.Cond.lays "QuorumAlmanacModel$Node" "QuorumAlmanacModel$Node" "role" "C") ∈ lw_all := lw_g (lw_at lw_m9 70 rfl) rfl
theorem q2035 : (Jvm.Cond.soleField "QuorumAlmanacModel$Node" "role") ∈ lw_all := lw_g (lw_at lw_m9 71 rfl) rfl
theorem q2036 : (Jvm.Cond.lays "QuorumAlmanacModel$Node" "QuorumAlmanacModel$Node" "runs" "Z") ∈ lw_all := lw_g (lw_at lw_m9 72 rfl) rfl
theorem q2037 : (Jvm.Cond.soleField "QuorumAlmanacModel$Node" "runs") ∈ lw_all := lw_g (lw_at lw_m9 73 rfl) rfl
theorem q2038 : (Jvm.Cond.lays "QuorumAlmanacModel$Node" "QuorumAlmanacModel$Node" "snapshot" "LQuorumAlmanacModel$Snapshot;") ∈ lw_all := lw_g (lw_at lw_m9 74 rfl) rfl
theorem q2039 : (Jvm.Cond.soleField "QuorumAlmanacModel$Node" "snapshot") ∈ lw_all := lw_g (lw_at lw_m9 75 rfl) rfl
theorem q2040 : (Jvm.Cond.lays "QuorumAlmanacModel$Node" "QuorumAlmanacModel$Node" "log" "Ljava/util/ArrayList;") ∈ lw_all := lw_g (lw_at lw_m9 76 rfl) rfl
theorem q2041 : (Jvm.Cond.soleField "QuorumAlmanacModel$Node" "log") ∈ lw_all := lw_g (lw_at lw_m9 77 rfl) rfl
theorem q2042 : (Jvm.Cond.lays "QuorumAlmanacModel$Node" "QuorumAlmanacModel$Node" "synced" "I") ∈ lw_all := lw_g (lw_at lw_m9 78 rfl) rfl
theorem q2043 : (Jvm.Cond.soleField "QuorumAlmanacModel$Node" "synced") ∈ lw_all := lw_g (lw_at lw_m9 79 rfl) rfl
theorem q2044 : (Jvm.Cond.lays "QuorumAlmanacModel$Node" "QuorumAlmanacModel$Node" "committed" "I") ∈ lw_all := lw_g (lw_at lw_m9 80 rfl) rfl
theorem q2045 : (Jvm.Cond.soleField "QuorumAlmanacModel$Node" "committed") ∈ lw_all := lw_g (lw_at lw_m9 81 rfl) rfl
theorem q2046 : (Jvm.Cond.lays "QuorumAlmanacModel$Node" "QuorumAlmanacModel$Node" "store" "LQuorumAlmanacModel$Store;") ∈ lw_all := lw_g (lw_at lw_m9 82 rfl) rfl
theorem q2047 : (Jvm.Cond.soleField "QuorumAlmanacModel$Node" "store") ∈ lw_all := lw_g (lw_at lw_m9 83 rfl) rfl
theorem q2048 : (Jvm.Cond.lays "QuorumAlmanacModel$Node" "QuorumAlmanacModel$Node" "heard" "I") ∈ lw_all := lw_g (lw_at lw_m9 84 rfl) rfl
theorem q2049 : (Jvm.Cond.soleField "QuorumAlmanacModel$Node" "heard") ∈ lw_all := lw_g (lw_at lw_m9 85 rfl) rfl
theorem q2050 : (Jvm.Cond.lays "QuorumAlmanacModel$Node" "QuorumAlmanacModel$Node" "contact" "I") ∈ lw_all := lw_g (lw_at lw_m9 86 rfl) rfl
theorem q2051 : (Jvm.Cond.soleField "QuorumAlmanacModel$Node" "contact") ∈ lw_all := lw_g (lw_at lw_m9 87 rfl) rfl
theorem q2052 : (Jvm.Cond.lays "QuorumAlmanacModel$Node" "QuorumAlmanacModel$Node" "leader" "I") ∈ lw_all := lw_g (lw_at lw_m9 88 rfl) rfl
theorem q2053 : (Jvm.Cond.soleField "QuorumAlmanacModel$Node" "leader") ∈ lw_all := lw_g (lw_at lw_m9 89 rfl) rfl
theorem q2054 : (Jvm.Cond.lays "QuorumAlmanacModel$Node" "QuorumAlmanacModel$Node" "agreed" "I") ∈ lw_all := lw_g (lw_at lw_m9 90 rfl) rfl
theorem q2055 : (Jvm.Cond.soleField "QuorumAlmanacModel$Node" "agreed") ∈ lw_all := lw_g (lw_at lw_m9 91 rfl) rfl
theorem q2056 : (Jvm.Cond.lays "QuorumAlmanacModel$Node" "QuorumAlmanacModel$Node" "lastRound" "I") ∈ lw_all := lw_g (lw_at lw_m9 92 rfl) rfl
theorem q2057 : (Jvm.Cond.soleField "QuorumAlmanacModel$Node" "lastRound") ∈ lw_all := lw_g (lw_at lw_m9 93 rfl) rfl
theorem q2058 : (Jvm.Cond.lays "QuorumAlmanacModel$Node" "QuorumAlmanacModel$Node" "voters" "I") ∈ lw_all := lw_g (lw_at lw_m9 94 rfl) rfl
theorem q2059 : (Jvm.Cond.soleField "QuorumAlmanacModel$Node" "voters") ∈ lw_all := lw_g (lw_at lw_m9 95 rfl) rfl
theorem q2060 : (Jvm.Cond.laysFinal "QuorumAlmanacModel$Node" "QuorumAlmanacModel$Node" "next" "[I") ∈ lw_all := lw_g (lw_at lw_m9 96 rfl) rfl
theorem q2061 : (Jvm.Cond.soleField "QuorumAlmanacModel$Node" "next") ∈ lw_all := lw_g (lw_at lw_m9 97 rfl) rfl
theorem q2062 : (Jvm.Cond.laysFinal "QuorumAlmanacModel$Node" "QuorumAlmanacModel$Node" "matched" "[I") ∈ lw_all := lw_g (lw_at lw_m9 98 rfl) rfl
theorem q2063 : (Jvm.Cond.soleField "QuorumAlmanacModel$Node" "matched") ∈ lw_all := lw_g (lw_at lw_m9 99 rfl) rfl
theorem q2064 : (Jvm.Cond.laysFinal "QuorumAlmanacModel$Node" "QuorumAlmanacModel$Node" "answered" "[I") ∈ lw_all := lw_g (lw_at lw_m9 100 rfl) rfl
theorem q2065 : (Jvm.Cond.soleField "QuorumAlmanacModel$Node" "answered") ∈ lw_all := lw_g (lw_at lw_m9 101 rfl) rfl
theorem q2066 : (Jvm.Cond.lays "QuorumAlmanacModel$Node" "QuorumAlmanacModel$Node" "begun" "Ljava/util/ArrayList;") ∈ lw_all := lw_g (lw_at lw_m9 102 rfl) rfl
theorem q2067 : (Jvm.Cond.soleField "QuorumAlmanacModel$Node" "begun") ∈ lw_all := lw_g (lw_at lw_m9 103 rfl) rfl
theorem q2068 : (Jvm.Cond.laysFinal "QuorumAlmanacModel$Node" "QuorumAlmanacModel$Node" "this$0" "LQuorumAlmanacModel;") ∈ lw_all := lw_g (lw_at lw_m9 104 rfl) rfl
theorem q2069 : (Jvm.Cond.soleField "QuorumAlmanacModel$Node" "this$0") ∈ lw_all := lw_g (lw_at lw_m9 105 rfl) rfl
theorem q2070 : (Jvm.Cond.superclass "QuorumAlmanacModel$Node" "java/lang/Object") ∈ lw_all := lw_g (lw_at lw_m9 106 rfl) rfl
theorem q2077 : (Jvm.Cond.fieldLinkNest "QuorumAlmanacModel$Node" (136 : Nat) "QuorumAlmanacModel" "reads" "Ljava/util/ArrayList;" "QuorumAlmanacModel") ∈ lw_tbl := lw_at lw_m9 113 rfl
theorem q2080 : (Jvm.Cond.fieldLinkNest "QuorumAlmanacModel$Node" (282 : Nat) "QuorumAlmanacModel" "refused" "I" "QuorumAlmanacModel") ∈ lw_tbl := lw_at lw_m9 116 rfl
theorem q2121 : (Jvm.Cond.instanceMethod ({ cls := "QuorumAlmanacModel$Node", name := "ticks", desc := "()V" } : Jvm.MethodName)) ∈ lw_all := lw_g (lw_at lw_m9 157 rfl) rfl
theorem q2122 : (Jvm.Cond.selects "QuorumAlmanacModel$Node" ({ cls := "QuorumAlmanacModel$Node", name := "ticks", desc := "()V" } : Jvm.MethodName) ({ cls := "QuorumAlmanacModel$Node", name := "ticks", desc := "()V" } : Jvm.MethodName)) ∈ lw_all := lw_g (lw_at lw_m9 158 rfl) rfl
theorem q2123 : (Jvm.Cond.code ({ cls := "QuorumAlmanacModel$Node", name := "ticks", desc := "()V" } : Jvm.MethodName) prog_22_method_14_code (3 : Nat) (Option.none : Option Jvm.ClassFile.FieldType)) ∈ lw_all := lw_g (lw_at lw_m9 159 rfl) rfl
theorem q2124 : (Jvm.Cond.methodLink "QuorumAlmanacModel$Node" (75 : Nat) ({ cls := "java/util/ArrayList", name := "size", desc := "()I" } : Jvm.MethodName)) ∈ lw_all := lw_g (lw_at lw_m9 160 rfl) rfl
theorem q2125 : (Jvm.Cond.methodLink "QuorumAlmanacModel$Node" (79 : Nat) ({ cls := "java/util/ArrayList", name := "get", desc := "(I)Ljava/lang/Object;" } : Jvm.MethodName)) ∈ lw_all := lw_g (lw_at lw_m9 161 rfl) rfl
theorem q2126 : (Jvm.Cond.classLink "QuorumAlmanacModel$Node" (163 : Nat) "java/lang/Integer") ∈ lw_all := lw_g (lw_at lw_m9 162 rfl) rfl
theorem q2127 : (Jvm.Cond.methodLink "QuorumAlmanacModel$Node" (165 : Nat) ({ cls := "java/lang/Integer", name := "intValue", desc := "()I" } : Jvm.MethodName)) ∈ lw_all := lw_g (lw_at lw_m9 163 rfl) rfl
theorem q2128 : (Jvm.Cond.methodLink "QuorumAlmanacModel$Node" (168 : Nat) ({ cls := "QuorumAlmanacModel$Node", name := "beginsRound", desc := "()V" } : Jvm.MethodName)) ∈ lw_all := lw_g (lw_at lw_m9 164 rfl) rfl
theorem q2129 : (Jvm.Cond.instanceMethod ({ cls := "QuorumAlmanacModel$Node", name := "beginsRound", desc := "()V" } : Jvm.MethodName)) ∈ lw_all := lw_g (lw_at lw_m9 165 rfl) rfl
theorem q2130 : (Jvm.Cond.selects "QuorumAlmanacModel$Node" ({ cls := "QuorumAlmanacModel$Node", name := "beginsRound", desc := "()V" } : Jvm.MethodName) ({ cls := "QuorumAlmanacModel$Node", name := "beginsRound", desc := "()V" } : Jvm.MethodName)) ∈ lw_all := lw_g (lw_at lw_m9 166 rfl) rfl
theorem q2131 : (Jvm.Cond.code ({ cls := "QuorumAlmanacModel$Node", name := "beginsRound", desc := "()V" } : Jvm.MethodName) prog_22_method_16_code (3 : Nat) (Option.none : Option Jvm.ClassFile.FieldType)) ∈ lw_all := lw_g (lw_at lw_m9 167 rfl) rfl
theorem q2132 : (Jvm.Cond.methodLink "QuorumAlmanacModel$Node" (208 : Nat) ({ cls := "java/lang/Integer", name := "valueOf", desc := "(I)Ljava/lang/Integer;" } : Jvm.MethodName)) ∈ lw_all := lw_g (lw_at lw_m9 168 rfl) rfl
theorem q2133 : (Jvm.Cond.methodLink "QuorumAlmanacModel$Node" (204 : Nat) ({ cls := "java/util/ArrayList", name := "add", desc := "(Ljava/lang/Object;)Z" } : Jvm.MethodName)) ∈ lw_all := lw_g (lw_at lw_m9 169 rfl) rfl
theorem q2134 : (Jvm.Cond.methodLink "QuorumAlmanacModel$Node" (123 : Nat) ({ cls := "QuorumAlmanacModel$Node", name := "members", desc := "()I" } : Jvm.MethodName)) ∈ lw_all := lw_g (lw_at lw_m9 170 rfl) rfl
theorem q2135 : (Jvm.Cond.instanceMethod ({ cls := "QuorumAlmanacModel$Node", name := "members", desc := "()I" } : Jvm.MethodName)) ∈ lw_all := lw_g (lw_at lw_m9 171 rfl) rfl
theorem q2136 : (Jvm.Cond.selects "QuorumAlmanacModel$Node" ({ cls := "QuorumAlmanacModel$Node", name := "members", desc := "()I" } : Jvm.MethodName) ({ cls := "QuorumAlmanacModel$Node", name := "members", desc := "()I" } : Jvm.MethodName)) ∈ lw_all := lw_g (lw_at lw_m9 172 rfl) rfl
theorem q2137 : (Jvm.Cond.code ({ cls := "QuorumAlmanacModel$Node", name := "members", desc := "()I" } : Jvm.MethodName) prog_22_method_9_code (1 : Nat) (Option.some Jvm.ClassFile.FieldType.int)) ∈ lw_all := lw_g (lw_at lw_m9 173 rfl) rfl
theorem q2138 : (Jvm.Cond.methodLink "QuorumAlmanacModel$Node" (85 : Nat) ({ cls := "QuorumAlmanacModel$Node", name := "last", desc := "()I" } : Jvm.MethodName)) ∈ lw_all := lw_g (lw_at lw_m9 174 rfl) rfl
theorem q2139 : (Jvm.Cond.instanceMethod ({ cls := "QuorumAlmanacModel$Node", name := "last", desc := "()I" } : Jvm.MethodName)) ∈ lw_all := lw_g (lw_at lw_m9 175 rfl) rfl
theorem q2140 : (Jvm.Cond.selects "QuorumAlmanacModel$Node" ({ cls := "QuorumAlmanacModel$Node", name := "last", desc := "()I" } : Jvm.MethodName) ({ cls := "QuorumAlmanacModel$Node", name := "last", desc := "()I" } : Jvm.MethodName)) ∈ lw_all := lw_g (lw_at lw_m9 176 rfl) rfl
theorem q2141 : (Jvm.Cond.code ({ cls := "QuorumAlmanacModel$Node", name := "last", desc := "()I" } : Jvm.MethodName) prog_22_method_2_code (1 : Nat) (Option.some Jvm.ClassFile.FieldType.int)) ∈ lw_all := lw_g (lw_at lw_m9 177 rfl) rfl
theorem q2142 : (Jvm.Cond.methodLink "QuorumAlmanacModel$Node" (115 : Nat) ({ cls := "QuorumAlmanacModel$Node", name := "old", desc := "(I)I" } : Jvm.MethodName)) ∈ lw_all := lw_g (lw_at lw_m9 178 rfl) rfl
theorem q2143 : (Jvm.Cond.instanceMethod ({ cls := "QuorumAlmanacModel$Node", name := "old", desc := "(I)I" } : Jvm.MethodName)) ∈ lw_all := lw_g (lw_at lw_m9 179 rfl) rfl
theorem q2144 : (Jvm.Cond.selects "QuorumAlmanacModel$Node" ({ cls := "QuorumAlmanacModel$Node", name := "old", desc := "(I)I" } : Jvm.MethodName) ({ cls := "QuorumAlmanacModel$Node", name := "old", desc := "(I)I" } : Jvm.MethodName)) ∈ lw_all := lw_g (lw_at lw_m9 180 rfl) rfl
theorem q2145 : (Jvm.Cond.code ({ cls := "QuorumAlmanacModel$Node", name := "old", desc := "(I)I" } : Jvm.MethodName) prog_22_method_7_code (3 : Nat) (Option.some Jvm.ClassFile.FieldType.int)) ∈ lw_all := lw_g (lw_at lw_m9 181 rfl) rfl
theorem q2146 : (Jvm.Cond.methodLink "QuorumAlmanacModel$Node" (99 : Nat) ({ cls := "QuorumAlmanacModel$Node", name := "latestChange", desc := "(I)I" } : Jvm.MethodName)) ∈ lw_all := lw_g (lw_at lw_m9 182 rfl) rfl
theorem q2147 : (Jvm.Cond.instanceMethod ({ cls := "QuorumAlmanacModel$Node", name := "latestChange", desc := "(I)I" } : Jvm.MethodName)) ∈ lw_all := lw_g (lw_at lw_m9 183 rfl) rfl
theorem q2148 : (Jvm.Cond.selects "QuorumAlmanacModel$Node" ({ cls := "QuorumAlmanacModel$Node", name := "latestChange", desc := "(I)I" } : Jvm.MethodName) ({ cls := "QuorumAlmanacModel$Node", name := "latestChange", desc := "(I)I" } : Jvm.MethodName)) ∈ lw_all := lw_g (lw_at lw_m9 184 rfl) rfl
theorem q2149 : (Jvm.Cond.code ({ cls := "QuorumAlmanacModel$Node", name := "latestChange", desc := "(I)I" } : Jvm.MethodName) prog_22_method_6_code (4 : Nat) (Option.some Jvm.ClassFile.FieldType.int)) ∈ lw_all := lw_g (lw_at lw_m9 185 rfl) rfl
theorem q2150 : (Jvm.Cond.methodLink "QuorumAlmanacModel$Node" (91 : Nat) ({ cls := "QuorumAlmanacModel$Node", name := "entry", desc := "(I)LQuorumAlmanacModel$Entry;" } : Jvm.MethodName)) ∈ lw_all := lw_g (lw_at lw_m9 186 rfl) rfl
theorem q2151 : (Jvm.Cond.instanceMethod ({ cls := "QuorumAlmanacModel$Node", name := "entry", desc := "(I)LQuorumAlmanacModel$Entry;" } : Jvm.MethodName)) ∈ lw_all := lw_g (lw_at lw_m9 187 rfl) rfl
theorem q2152 : (Jvm.Cond.selects "QuorumAlmanacModel$Node" ({ cls := "QuorumAlmanacModel$Node", name := "entry", desc := "(I)LQuorumAlmanacModel$Entry;" } : Jvm.MethodName) ({ cls := "QuorumAlmanacModel$Node", name := "entry", desc := "(I)LQuorumAlmanacModel$Entry;" } : Jvm.MethodName)) ∈ lw_all := lw_g (lw_at lw_m9 188 rfl) rfl
theorem q2153 : (Jvm.Cond.code ({ cls := "QuorumAlmanacModel$Node", name := "entry", desc := "(I)LQuorumAlmanacModel$Entry;" } : Jvm.MethodName) prog_22_method_3_code (2 : Nat) (Option.some (Jvm.ClassFile.FieldType.object "QuorumAlmanacModel$Entry"))) ∈ lw_all := lw_g (lw_at lw_m9 189 rfl) rfl
theorem q2154 : (Jvm.Cond.classLink "QuorumAlmanacModel$Node" (83 : Nat) "QuorumAlmanacModel$Entry") ∈ lw_all := lw_g (lw_at lw_m9 190 rfl) rfl
theorem q2155 : (Jvm.Cond.methodLink "QuorumAlmanacModel$Node" (117 : Nat) ({ cls := "QuorumAlmanacModel$Node", name := "fresh", desc := "(I)I" } : Jvm.MethodName)) ∈ lw_all := lw_g (lw_at lw_m9 191 rfl) rfl
theorem q2156 : (Jvm.Cond.instanceMethod ({ cls := "QuorumAlmanacModel$Node", name := "fresh", desc := "(I)I" } : Jvm.MethodName)) ∈ lw_all := lw_g (lw_at lw_m9 192 rfl) rfl
theorem q2157 : (Jvm.Cond.selects "QuorumAlmanacModel$Node" ({ cls := "QuorumAlmanacModel$Node", name := "fresh", desc := "(I)I" } : Jvm.MethodName) ({ cls := "QuorumAlmanacModel$Node", name := "fresh", desc := "(I)I" } : Jvm.MethodName)) ∈ lw_all := lw_g (lw_at lw_m9 193 rfl) rfl
theorem q2158 : (Jvm.Cond.code ({ cls := "QuorumAlmanacModel$Node", name := "fresh", desc := "(I)I" } : Jvm.MethodName) prog_22_method_8_code (3 : Nat) (Option.some Jvm.ClassFile.FieldType.int)) ∈ lw_all := lw_g (lw_at lw_m9 194 rfl) rfl
theorem q2159 : (Jvm.Cond.methodLink "QuorumAlmanacModel$Node" (212 : Nat) ({ cls := "QuorumAlmanacModel$Node", name := "sends", desc := "(I)V" } : Jvm.MethodName)) ∈ lw_all := lw_g (lw_at lw_m9 195 rfl) rfl
theorem q2160 : (Jvm.Cond.instanceMethod ({ cls := "QuorumAlmanacModel$Node", name := "sends", desc := "(I)V" } : Jvm.MethodName)) ∈ lw_all := lw_g (lw_at lw_m9 196 rfl) rfl
theorem q2161 : (Jvm.Cond.selects "QuorumAlmanacModel$Node" ({ cls := "QuorumAlmanacModel$Node", name := "sends", desc := "(I)V" } : Jvm.MethodName) ({ cls := "QuorumAlmanacModel$Node", name := "sends", desc := "(I)V" } : Jvm.MethodName)) ∈ lw_all := lw_g (lw_at lw_m9 197 rfl) rfl
theorem q2162 : (Jvm.Cond.code ({ cls := "QuorumAlmanacModel$Node", name := "sends", desc := "(I)V" } : Jvm.MethodName) prog_22_method_17_code (6 : Nat) (Option.none : Option Jvm.ClassFile.FieldType)) ∈ lw_all := lw_g (lw_at lw_m9 198 rfl) rfl
theorem q2163 : (Jvm.Cond.methodLinkNest "QuorumAlmanacModel$Node" (180 : Nat) ({ cls := "QuorumAlmanacModel", name := "send", desc := "(CII)LQuorumAlmanacModel$Message;" } : Jvm.MethodName) "QuorumAlmanacModel") ∈ lw_tbl := lw_at lw_m9 199 rfl
theorem q2176 : (Jvm.Cond.fieldLinkNest "QuorumAlmanacModel$Node" (265 : Nat) "QuorumAlmanacModel$Message" "kind" "C" "QuorumAlmanacModel") ∈ lw_tbl := lw_at lw_m9 212 rfl
theorem q2179 : (Jvm.Cond.fieldLinkNest "QuorumAlmanacModel$Node" (276 : Nat) "QuorumAlmanacModel$Message" "from" "I" "QuorumAlmanacModel") ∈ lw_tbl := lw_at lw_m9 215 rfl
theorem q2184 : (Jvm.Cond.fieldLinkNest "QuorumAlmanacModel$Node" (184 : Nat) "QuorumAlmanacModel$Message" "term" "I" "QuorumAlmanacModel") ∈ lw_tbl := lw_at lw_m9 220 rfl
theorem q2186 : (Jvm.Cond.fieldLinkNest "QuorumAlmanacModel$Node" (216 : Nat) "QuorumAlmanacModel$Message" "round" "I" "QuorumAlmanacModel") ∈ lw_tbl := lw_at lw_m9 222 rfl
theorem q2188 : (Jvm.Cond.fieldLinkNest "QuorumAlmanacModel$Node" (187 : Nat) "QuorumAlmanacModel$Message" "index" "I" "QuorumAlmanacModel") ∈ lw_tbl := lw_at lw_m9 224 rfl
theorem q2190 : (Jvm.Cond.fieldLinkNest "QuorumAlmanacModel$Node" (191 : Nat) "QuorumAlmanacModel$Message" "indexTerm" "I" "QuorumAlmanacModel") ∈ lw_tbl := lw_at lw_m9 226 rfl
theorem q2192 : (Jvm.Cond.fieldLinkNest "QuorumAlmanacModel$Node" (273 : Nat) "QuorumAlmanacModel$Message" "isYes" "Z" "QuorumAlmanacModel") ∈ lw_tbl := lw_at lw_m9 228 rfl
theorem q2194 : (Jvm.Cond.fieldLinkNest "QuorumAlmanacModel$Node" (223 : Nat) "QuorumAlmanacModel$Message" "commit" "I" "QuorumAlmanacModel") ∈ lw_tbl := lw_at lw_m9 230 rfl
theorem q2196 : (Jvm.Cond.fieldLinkNest "QuorumAlmanacModel$Node" (226 : Nat) "QuorumAlmanacModel$Message" "entries" "Ljava/util/ArrayList;" "QuorumAlmanacModel") ∈ lw_tbl := lw_at lw_m9 232 rfl
theorem q2198 : (Jvm.Cond.fieldLinkNest "QuorumAlmanacModel$Node" (219 : Nat) "QuorumAlmanacModel$Message" "snapshot" "LQuorumAlmanacModel$Snapshot;" "QuorumAlmanacModel") ∈ lw_tbl := lw_at lw_m9 234 rfl
theorem q2231 : (Jvm.Cond.methodLink "QuorumAlmanacModel$Node" (188 : Nat) ({ cls := "QuorumAlmanacModel$Node", name := "termAt", desc := "(I)I" } : Jvm.MethodName)) ∈ lw_all := lw_g (lw_at lw_m10 27 rfl) rfl
theorem q2232 : (Jvm.Cond.instanceMethod ({ cls := "QuorumAlmanacModel$Node", name := "termAt", desc := "(I)I" } : Jvm.MethodName)) ∈ lw_all := lw_g (lw_at lw_m10 28 rfl) rfl
theorem q2233 : (Jvm.Cond.selects "QuorumAlmanacModel$Node" ({ cls := "QuorumAlmanacModel$Node", name := "termAt", desc := "(I)I" } : Jvm.MethodName) ({ cls := "QuorumAlmanacModel$Node", name := "termAt", desc := "(I)I" } : Jvm.MethodName)) ∈ lw_all := lw_g (lw_at lw_m10 29 rfl) rfl
theorem q2234 : (Jvm.Cond.code ({ cls := "QuorumAlmanacModel$Node", name := "termAt", desc := "(I)I" } : Jvm.MethodName) prog_22_method_5_code (2 : Nat) (Option.some Jvm.ClassFile.FieldType.int)) ∈ lw_all := lw_g (lw_at lw_m10 30 rfl) rfl
theorem q2235 : (Jvm.Cond.methodLink "QuorumAlmanacModel$Node" (171 : Nat) ({ cls := "QuorumAlmanacModel$Node", name := "isMember", desc := "()Z" } : Jvm.MethodName)) ∈ lw_all := lw_g (lw_at lw_m10 31 rfl) rfl
theorem q2236 : (Jvm.Cond.instanceMethod ({ cls := "QuorumAlmanacModel$Node", name := "isMember", desc := "()Z" } : Jvm.MethodName)) ∈ lw_all := lw_g (lw_at lw_m10 32 rfl) rfl
theorem q2237 : (Jvm.Cond.selects "QuorumAlmanacModel$Node" ({ cls := "QuorumAlmanacModel$Node", name := "isMember", desc := "()Z" } : Jvm.MethodName) ({ cls := "QuorumAlmanacModel$Node", name := "isMember", desc := "()Z" } : Jvm.MethodName)) ∈ lw_all := lw_g (lw_at lw_m10 33 rfl) rfl
theorem q2238 : (Jvm.Cond.code ({ cls := "QuorumAlmanacModel$Node", name := "isMember", desc := "()Z" } : Jvm.MethodName) prog_22_method_11_code (1 : Nat) (Option.some Jvm.ClassFile.FieldType.boolean)) ∈ lw_all := lw_g (lw_at lw_m10 34 rfl) rfl
theorem q2239 : (Jvm.Cond.methodLink "QuorumAlmanacModel$Node" (194 : Nat) ({ cls := "QuorumAlmanacModel$Node", name := "wins", desc := "()V" } : Jvm.MethodName)) ∈ lw_all := lw_g (lw_at lw_m10 35 rfl) rfl
theorem q2240 : (Jvm.Cond.instanceMethod ({ cls := "QuorumAlmanacModel$Node", name := "wins", desc := "()V" } : Jvm.MethodName)) ∈ lw_all := lw_g (lw_at lw_m10 36 rfl) rfl
theorem q2241 : (Jvm.Cond.selects "QuorumAlmanacModel$Node" ({ cls := "QuorumAlmanacModel$Node", name := "wins", desc := "()V" } : Jvm.MethodName) ({ cls := "QuorumAlmanacModel$Node", name := "wins", desc := "()V" } : Jvm.MethodName)) ∈ lw_all := lw_g (lw_at lw_m10 37 rfl) rfl
theorem q2242 : (Jvm.Cond.code ({ cls := "QuorumAlmanacModel$Node", name := "wins", desc := "()V" } : Jvm.MethodName) prog_22_method_15_code (2 : Nat) (Option.none : Option Jvm.ClassFile.FieldType)) ∈ lw_all := lw_g (lw_at lw_m10 38 rfl) rfl
theorem q2243 : (Jvm.Cond.methodLink "QuorumAlmanacModel$Node" (197 : Nat) ({ cls := "QuorumAlmanacModel$Node", name := "isMajority", desc := "(I)Z" } : Jvm.MethodName)) ∈ lw_all := lw_g (lw_at lw_m10 39 rfl) rfl
theorem q2244 : (Jvm.Cond.instanceMethod ({ cls := "QuorumAlmanacModel$Node", name := "isMajority", desc := "(I)Z" } : Jvm.MethodName)) ∈ lw_all := lw_g (lw_at lw_m10 40 rfl) rfl
theorem q2245 : (Jvm.Cond.selects "QuorumAlmanacModel$Node" ({ cls := "QuorumAlmanacModel$Node", name := "isMajority", desc := "(I)Z" } : Jvm.MethodName) ({ cls := "QuorumAlmanacModel$Node", name := "isMajority", desc := "(I)Z" } : Jvm.MethodName)) ∈ lw_all := lw_g (lw_at lw_m10 41 rfl) rfl
theorem q2246 : (Jvm.Cond.code ({ cls := "QuorumAlmanacModel$Node", name := "isMajority", desc := "(I)Z" } : Jvm.MethodName) prog_22_method_10_code (3 : Nat) (Option.some Jvm.ClassFile.FieldType.boolean)) ∈ lw_all := lw_g (lw_at lw_m10 42 rfl) rfl
theorem q2247 : (Jvm.Cond.methodLinkNest "QuorumAlmanacModel$Node" (119 : Nat) ({ cls := "QuorumAlmanacModel", name := "isMost", desc := "(II)Z" } : Jvm.MethodName) "QuorumAlmanacModel") ∈ lw_tbl := lw_at lw_m10 43 rfl
theorem q2254 : (Jvm.Cond.methodLink "QuorumAlmanacModel$Node" (201 : Nat) ({ cls := "QuorumAlmanacModel$Entry", name := "<init>", desc := "(ICII)V" } : Jvm.MethodName)) ∈ lw_all := lw_g (lw_at lw_m10 50 rfl) rfl
theorem q2259 : (Jvm.Cond.fieldLinkNest "QuorumAlmanacModel$Node" (95 : Nat) "QuorumAlmanacModel$Entry" "term" "I" "QuorumAlmanacModel") ∈ lw_tbl := lw_at lw_m10 55 rfl
theorem q2263 : (Jvm.Cond.fieldLinkNest "QuorumAlmanacModel$Node" (96 : Nat) "QuorumAlmanacModel$Entry" "kind" "C" "QuorumAlmanacModel") ∈ lw_tbl := lw_at lw_m10 59 rfl
theorem q2267 : (Jvm.Cond.fieldLinkNest "QuorumAlmanacModel$Node" (106 : Nat) "QuorumAlmanacModel$Entry" "one" "I" "QuorumAlmanacModel") ∈ lw_tbl := lw_at lw_m10 63 rfl
theorem q2271 : (Jvm.Cond.fieldLinkNest "QuorumAlmanacModel$Node" (112 : Nat) "QuorumAlmanacModel$Entry" "other" "I" "QuorumAlmanacModel") ∈ lw_tbl := lw_at lw_m10 67 rfl
theorem q2291 : (Jvm.Cond.instanceMethod ({ cls := "QuorumAlmanacModel$Node", name := "syncs", desc := "()I" } : Jvm.MethodName)) ∈ lw_all := lw_g (lw_at lw_m10 87 rfl) rfl
theorem q2292 : (Jvm.Cond.selects "QuorumAlmanacModel$Node" ({ cls := "QuorumAlmanacModel$Node", name := "syncs", desc := "()I" } : Jvm.MethodName) ({ cls := "QuorumAlmanacModel$Node", name := "syncs", desc := "()I" } : Jvm.MethodName)) ∈ lw_all := lw_g (lw_at lw_m10 88 rfl) rfl
theorem q2293 : (Jvm.Cond.code ({ cls := "QuorumAlmanacModel$Node", name := "syncs", desc := "()I" } : Jvm.MethodName) prog_22_method_31_code (2 : Nat) (Option.some Jvm.ClassFile.FieldType.int)) ∈ lw_all := lw_g (lw_at lw_m10 89 rfl) rfl
theorem q2294 : (Jvm.Cond.methodLink "QuorumAlmanacModel$Node" (315 : Nat) ({ cls := "QuorumAlmanacModel$Node", name := "finds", desc := "()V" } : Jvm.MethodName)) ∈ lw_all := lw_g (lw_at lw_m10 90 rfl) rfl
theorem q2295 : (Jvm.Cond.instanceMethod ({ cls := "QuorumAlmanacModel$Node", name := "finds", desc := "()V" } : Jvm.MethodName)) ∈ lw_all := lw_g (lw_at lw_m10 91 rfl) rfl
theorem q2296 : (Jvm.Cond.selects "QuorumAlmanacModel$Node" ({ cls := "QuorumAlmanacModel$Node", name := "finds", desc := "()V" } : Jvm.MethodName) ({ cls := "QuorumAlmanacModel$Node", name := "finds", desc := "()V" } : Jvm.MethodName)) ∈ lw_all := lw_g (lw_at lw_m10 92 rfl) rfl
theorem q2297 : (Jvm.Cond.code ({ cls := "QuorumAlmanacModel$Node", name := "finds", desc := "()V" } : Jvm.MethodName) prog_22_method_19_code (5 : Nat) (Option.none : Option Jvm.ClassFile.FieldType)) ∈ lw_all := lw_g (lw_at lw_m10 93 rfl) rfl
theorem q2298 : (Jvm.Cond.methodLink "QuorumAlmanacModel$Node" (246 : Nat) ({ cls := "QuorumAlmanacModel$Node", name := "commits", desc := "(I)V" } : Jvm.MethodName)) ∈ lw_all := lw_g (lw_at lw_m10 94 rfl) rfl
theorem q2299 : (Jvm.Cond.instanceMethod ({ cls := "QuorumAlmanacModel$Node", name := "commits", desc := "(I)V" } : Jvm.MethodName)) ∈ lw_all := lw_g (lw_at lw_m10 95 rfl) rfl
theorem q2300 : (Jvm.Cond.selects "QuorumAlmanacModel$Node" ({ cls := "QuorumAlmanacModel$Node", name := "commits", desc := "(I)V" } : Jvm.MethodName) ({ cls := "QuorumAlmanacModel$Node", name := "commits", desc := "(I)V" } : Jvm.MethodName)) ∈ lw_all := lw_g (lw_at lw_m10 96 rfl) rfl
theorem q2301 : (Jvm.Cond.code ({ cls := "QuorumAlmanacModel$Node", name := "commits", desc := "(I)V" } : Jvm.MethodName) prog_22_method_18_code (3 : Nat) (Option.none : Option Jvm.ClassFile.FieldType)) ∈ lw_all := lw_g (lw_at lw_m10 97 rfl) rfl
theorem q2302 : (Jvm.Cond.methodLink "QuorumAlmanacModel$Node" (229 : Nat) ({ cls := "QuorumAlmanacModel$Store", name := "apply", desc := "(LQuorumAlmanacModel$Entry;)V" } : Jvm.MethodName)) ∈ lw_all := lw_g (lw_at lw_m10 98 rfl) rfl
theorem q2310 : (Jvm.Cond.methodLinkNest "QuorumAlmanacModel$Node" (233 : Nat) ({ cls := "QuorumAlmanacModel", name := "tellsHistory", desc := "(ILQuorumAlmanacModel$Entry;)V" } : Jvm.MethodName) "QuorumAlmanacModel") ∈ lw_tbl := lw_at lw_m10 106 rfl
theorem q2314 : (Jvm.Cond.methodLink "QuorumAlmanacModel$Node" (237 : Nat) ({ cls := "java/lang/Math", name := "max", desc := "(II)I" } : Jvm.MethodName)) ∈ lw_all := lw_g (lw_at lw_m10 110 rfl) rfl
theorem q2315 : (Jvm.Cond.methodLink "QuorumAlmanacModel$Node" (133 : Nat) ({ cls := "QuorumAlmanacModel$Node", name := "losesReads", desc := "()V" } : Jvm.MethodName)) ∈ lw_all := lw_g (lw_at lw_m10 111 rfl) rfl
theorem q2316 : (Jvm.Cond.instanceMethod ({ cls := "QuorumAlmanacModel$Node", name := "losesReads", desc := "()V" } : Jvm.MethodName)) ∈ lw_all := lw_g (lw_at lw_m10 112 rfl) rfl
theorem q2317 : (Jvm.Cond.selects "QuorumAlmanacModel$Node" ({ cls := "QuorumAlmanacModel$Node", name := "losesReads", desc := "()V" } : Jvm.MethodName) ({ cls := "QuorumAlmanacModel$Node", name := "losesReads", desc := "()V" } : Jvm.MethodName)) ∈ lw_all := lw_g (lw_at lw_m10 113 rfl) rfl
theorem q2318 : (Jvm.Cond.code ({ cls := "QuorumAlmanacModel$Node", name := "losesReads", desc := "()V" } : Jvm.MethodName) prog_22_method_13_code (3 : Nat) (Option.none : Option Jvm.ClassFile.FieldType)) ∈ lw_all := lw_g (lw_at lw_m10 114 rfl) rfl
theorem q2319 : (Jvm.Cond.methodLink "QuorumAlmanacModel$Node" (139 : Nat) ({ cls := "java/util/ArrayList", name := "iterator", desc := "()Ljava/util/Iterator;" } : Jvm.MethodName)) ∈ lw_all := lw_g (lw_at lw_m10 115 rfl) rfl
theorem q2320 : (Jvm.Cond.interfaceEntry "QuorumAlmanacModel$Node" (143 : Nat)) ∈ lw_tbl := lw_at lw_m10 116 rfl
theorem q2321 : (Jvm.Cond.methodLink "QuorumAlmanacModel$Node" (143 : Nat) ({ cls := "java/util/Iterator", name := "hasNext", desc := "()Z" } : Jvm.MethodName)) ∈ lw_all := lw_g (lw_at lw_m10 117 rfl) rfl
theorem q2322 : (Jvm.Cond.interfaceEntry "QuorumAlmanacModel$Node" (149 : Nat)) ∈ lw_tbl := lw_at lw_m10 118 rfl
theorem q2323 : (Jvm.Cond.methodLink "QuorumAlmanacModel$Node" (149 : Nat) ({ cls := "java/util/Iterator", name := "next", desc := "()Ljava/lang/Object;" } : Jvm.MethodName)) ∈ lw_all := lw_g (lw_at lw_m10 119 rfl) rfl
theorem q2324 : (Jvm.Cond.classLink "QuorumAlmanacModel$Node" (152 : Nat) "QuorumAlmanacModel$Read") ∈ lw_all := lw_g (lw_at lw_m10 120 rfl) rfl
theorem q2325 : (Jvm.Cond.methodLink "QuorumAlmanacModel$Node" (318 : Nat) ({ cls := "QuorumAlmanacModel$Node", name := "looksAtReads", desc := "()V" } : Jvm.MethodName)) ∈ lw_all := lw_g (lw_at lw_m10 121 rfl) rfl
theorem q2326 : (Jvm.Cond.instanceMethod ({ cls := "QuorumAlmanacModel$Node", name := "looksAtReads", desc := "()V" } : Jvm.MethodName)) ∈ lw_all := lw_g (lw_at lw_m10 122 rfl) rfl
theorem q2327 : (Jvm.Cond.selects "QuorumAlmanacModel$Node" ({ cls := "QuorumAlmanacModel$Node", name := "looksAtReads", desc := "()V" } : Jvm.MethodName) ({ cls := "QuorumAlmanacModel$Node", name := "looksAtReads", desc := "()V" } : Jvm.MethodName)) ∈ lw_all := lw_g (lw_at lw_m10 123 rfl) rfl
theorem q2328 : (Jvm.Cond.code ({ cls := "QuorumAlmanacModel$Node", name := "looksAtReads", desc := "()V" } : Jvm.MethodName) prog_22_method_23_code (4 : Nat) (Option.none : Option Jvm.ClassFile.FieldType)) ∈ lw_all := lw_g (lw_at lw_m10 124 rfl) rfl
theorem q2329 : (Jvm.Cond.methodLink "QuorumAlmanacModel$Node" (252 : Nat) ({ cls := "QuorumAlmanacModel$Node", name := "answeredByMost", desc := "()I" } : Jvm.MethodName)) ∈ lw_all := lw_g (lw_at lw_m10 125 rfl) rfl
theorem q2330 : (Jvm.Cond.instanceMethod ({ cls := "QuorumAlmanacModel$Node", name := "answeredByMost", desc := "()I" } : Jvm.MethodName)) ∈ lw_all := lw_g (lw_at lw_m10 126 rfl) rfl
theorem q2331 : (Jvm.Cond.selects "QuorumAlmanacModel$Node" ({ cls := "QuorumAlmanacModel$Node", name := "answeredByMost", desc := "()I" } : Jvm.MethodName) ({ cls := "QuorumAlmanacModel$Node", name := "answeredByMost", desc := "()I" } : Jvm.MethodName)) ∈ lw_all := lw_g (lw_at lw_m10 127 rfl) rfl
theorem q2332 : (Jvm.Cond.code ({ cls := "QuorumAlmanacModel$Node", name := "answeredByMost", desc := "()I" } : Jvm.MethodName) prog_22_method_20_code (5 : Nat) (Option.some Jvm.ClassFile.FieldType.int)) ∈ lw_all := lw_g (lw_at lw_m10 128 rfl) rfl
theorem q2333 : (Jvm.Cond.methodLink "QuorumAlmanacModel$Node" (295 : Nat) ({ cls := "QuorumAlmanacModel$Node", name := "answers", desc := "()V" } : Jvm.MethodName)) ∈ lw_all := lw_g (lw_at lw_m10 129 rfl) rfl
theorem q2334 : (Jvm.Cond.instanceMethod ({ cls := "QuorumAlmanacModel$Node", name := "answers", desc := "()V" } : Jvm.MethodName)) ∈ lw_all := lw_g (lw_at lw_m10 130 rfl) rfl
theorem q2335 : (Jvm.Cond.selects "QuorumAlmanacModel$Node" ({ cls := "QuorumAlmanacModel$Node", name := "answers", desc := "()V" } : Jvm.MethodName) ({ cls := "QuorumAlmanacModel$Node", name := "answers", desc := "()V" } : Jvm.MethodName)) ∈ lw_all := lw_g (lw_at lw_m10 131 rfl) rfl
theorem q2336 : (Jvm.Cond.code ({ cls := "QuorumAlmanacModel$Node", name := "answers", desc := "()V" } : Jvm.MethodName) prog_22_method_29_code (2 : Nat) (Option.none : Option Jvm.ClassFile.FieldType)) ∈ lw_all := lw_g (lw_at lw_m10 132 rfl) rfl
theorem q2337 : (Jvm.Cond.methodLink "QuorumAlmanacModel$Node" (304 : Nat) ({ cls := "java/lang/Math", name := "min", desc := "(II)I" } : Jvm.MethodName)) ∈ lw_all := lw_g (lw_at lw_m10 133 rfl) rfl
theorem q2343 : (Jvm.Cond.instanceMethod ({ cls := "QuorumAlmanacModel$Node", name := "crashes", desc := "()I" } : Jvm.MethodName)) ∈ lw_all := lw_g (lw_at lw_m10 139 rfl) rfl
theorem q2344 : (Jvm.Cond.selects "QuorumAlmanacModel$Node" ({ cls := "QuorumAlmanacModel$Node", name := "crashes", desc := "()I" } : Jvm.MethodName) ({ cls := "QuorumAlmanacModel$Node", name := "crashes", desc := "()I" } : Jvm.MethodName)) ∈ lw_all := lw_g (lw_at lw_m10 140 rfl) rfl
theorem q2345 : (Jvm.Cond.code ({ cls := "QuorumAlmanacModel$Node", name := "crashes", desc := "()I" } : Jvm.MethodName) prog_22_method_32_code (2 : Nat) (Option.some Jvm.ClassFile.FieldType.int)) ∈ lw_all := lw_g (lw_at lw_m10 141 rfl) rfl
theorem q2346 : (Jvm.Cond.methodLink "QuorumAlmanacModel$Node" (301 : Nat) ({ cls := "QuorumAlmanacModel$Node", name := "cuts", desc := "(I)V" } : Jvm.MethodName)) ∈ lw_all := lw_g (lw_at lw_m10 142 rfl) rfl
theorem q2347 : (Jvm.Cond.instanceMethod ({ cls := "QuorumAlmanacModel$Node", name := "cuts", desc := "(I)V" } : Jvm.MethodName)) ∈ lw_all := lw_g (lw_at lw_m10 143 rfl) rfl
theorem q2348 : (Jvm.Cond.selects "QuorumAlmanacModel$Node" ({ cls := "QuorumAlmanacModel$Node", name := "cuts", desc := "(I)V" } : Jvm.MethodName) ({ cls := "QuorumAlmanacModel$Node", name := "cuts", desc := "(I)V" } : Jvm.MethodName)) ∈ lw_all := lw_g (lw_at lw_m10 144 rfl) rfl
theorem q2349 : (Jvm.Cond.code ({ cls := "QuorumAlmanacModel$Node", name := "cuts", desc := "(I)V" } : Jvm.MethodName) prog_22_method_27_code (3 : Nat) (Option.none : Option Jvm.ClassFile.FieldType)) ∈ lw_all := lw_g (lw_at lw_m10 145 rfl) rfl
theorem q2350 : (Jvm.Cond.methodLink "QuorumAlmanacModel$Node" (307 : Nat) ({ cls := "java/util/ArrayList", name := "remove", desc := "(I)Ljava/lang/Object;" } : Jvm.MethodName)) ∈ lw_all := lw_g (lw_at lw_m10 146 rfl) rfl
theorem q2351 : (Jvm.Cond.methodLink "QuorumAlmanacModel$Node" (311 : Nat) ({ cls := "QuorumAlmanacModel$Store", name := "copy", desc := "()LQuorumAlmanacModel$Store;" } : Jvm.MethodName)) ∈ lw_all := lw_g (lw_at lw_m10 147 rfl) rfl
theorem q2367 : (Jvm.Cond.instanceMethod ({ cls := "QuorumAlmanacModel$Node", name := "compacts", desc := "()I" } : Jvm.MethodName)) ∈ lw_all := lw_g (lw_at lw_m10 163 rfl) rfl
theorem q2368 : (Jvm.Cond.selects "QuorumAlmanacModel$Node" ({ cls := "QuorumAlmanacModel$Node", name := "compacts", desc := "()I" } : Jvm.MethodName) ({ cls := "QuorumAlmanacModel$Node", name := "compacts", desc := "()I" } : Jvm.MethodName)) ∈ lw_all := lw_g (lw_at lw_m10 164 rfl) rfl
theorem q2369 : (Jvm.Cond.code ({ cls := "QuorumAlmanacModel$Node", name := "compacts", desc := "()I" } : Jvm.MethodName) prog_22_method_33_code (6 : Nat) (Option.some Jvm.ClassFile.FieldType.int)) ∈ lw_all := lw_g (lw_at lw_m10 165 rfl) rfl
theorem q2417 : (Jvm.Cond.instanceMethod ({ cls := "QuorumAlmanacModel$Node", name := "has", desc := "(I)Z" } : Jvm.MethodName)) ∈ lw_all := lw_g (lw_at lw_m10 213 rfl) rfl
theorem q2418 : (Jvm.Cond.selects "QuorumAlmanacModel$Node" ({ cls := "QuorumAlmanacModel$Node", name := "has", desc := "(I)Z" } : Jvm.MethodName) ({ cls := "QuorumAlmanacModel$Node", name := "has", desc := "(I)Z" } : Jvm.MethodName)) ∈ lw_all := lw_g (lw_at lw_m10 214 rfl) rfl
theorem q2419 : (Jvm.Cond.code ({ cls := "QuorumAlmanacModel$Node", name := "has", desc := "(I)Z" } : Jvm.MethodName) prog_22_method_4_code (2 : Nat) (Option.some Jvm.ClassFile.FieldType.boolean)) ∈ lw_all := lw_g (lw_at lw_m10 215 rfl) rfl
theorem q2458 : (Jvm.Cond.instanceMethod ({ cls := "QuorumAlmanacModel$Node", name := "handles", desc := "(LQuorumAlmanacModel$Message;)V" } : Jvm.MethodName)) ∈ lw_all := lw_g (lw_at lw_m11 14 rfl) rfl
theorem q2459 : (Jvm.Cond.selects "QuorumAlmanacModel$Node" ({ cls := "QuorumAlmanacModel$Node", name := "handles", desc := "(LQuorumAlmanacModel$Message;)V" } : Jvm.MethodName) ({ cls := "QuorumAlmanacModel$Node", name := "handles", desc := "(LQuorumAlmanacModel$Message;)V" } : Jvm.MethodName)) ∈ lw_all := lw_g (lw_at lw_m11 15 rfl) rfl
theorem q2460 : (Jvm.Cond.code ({ cls := "QuorumAlmanacModel$Node", name := "handles", desc := "(LQuorumAlmanacModel$Message;)V" } : Jvm.MethodName) prog_22_method_24_code (3 : Nat) (Option.none : Option Jvm.ClassFile.FieldType)) ∈ lw_all := lw_g (lw_at lw_m11 16 rfl) rfl
theorem q2461 : (Jvm.Cond.methodLink "QuorumAlmanacModel$Node" (266 : Nat) ({ cls := "QuorumAlmanacModel$Node", name := "isAsked", desc := "(LQuorumAlmanacModel$Message;)V" } : Jvm.MethodName)) ∈ lw_all := lw_g (lw_at lw_m11 17 rfl) rfl
theorem q2462 : (Jvm.Cond.instanceMethod ({ cls := "QuorumAlmanacModel$Node", name := "isAsked", desc := "(LQuorumAlmanacModel$Message;)V" } : Jvm.MethodName)) ∈ lw_all := lw_g (lw_at lw_m11 18 rfl) rfl
theorem q2463 : (Jvm.Cond.selects "QuorumAlmanacModel$Node" ({ cls := "QuorumAlmanacModel$Node", name := "isAsked", desc := "(LQuorumAlmanacModel$Message;)V" } : Jvm.MethodName) ({ cls := "QuorumAlmanacModel$Node", name := "isAsked", desc := "(LQuorumAlmanacModel$Message;)V" } : Jvm.MethodName)) ∈ lw_all := lw_g (lw_at lw_m11 19 rfl) rfl
theorem q2464 : (Jvm.Cond.code ({ cls := "QuorumAlmanacModel$Node", name := "isAsked", desc := "(LQuorumAlmanacModel$Message;)V" } : Jvm.MethodName) prog_22_method_25_code (6 : Nat) (Option.none : Option Jvm.ClassFile.FieldType)) ∈ lw_all := lw_g (lw_at lw_m11 20 rfl) rfl
theorem q2465 : (Jvm.Cond.methodLink "QuorumAlmanacModel$Node" (288 : Nat) ({ cls := "QuorumAlmanacModel$Node", name := "hasLease", desc := "()Z" } : Jvm.MethodName)) ∈ lw_all := lw_g (lw_at lw_m11 21 rfl) rfl
theorem q2466 : (Jvm.Cond.instanceMethod ({ cls := "QuorumAlmanacModel$Node", name := "hasLease", desc := "()Z" } : Jvm.MethodName)) ∈ lw_all := lw_g (lw_at lw_m11 22 rfl) rfl
theorem q2467 : (Jvm.Cond.selects "QuorumAlmanacModel$Node" ({ cls := "QuorumAlmanacModel$Node", name := "hasLease", desc := "()Z" } : Jvm.MethodName) ({ cls := "QuorumAlmanacModel$Node", name := "hasLease", desc := "()Z" } : Jvm.MethodName)) ∈ lw_all := lw_g (lw_at lw_m11 23 rfl) rfl
theorem q2468 : (Jvm.Cond.code ({ cls := "QuorumAlmanacModel$Node", name := "hasLease", desc := "()Z" } : Jvm.MethodName) prog_22_method_22_code (2 : Nat) (Option.some Jvm.ClassFile.FieldType.boolean)) ∈ lw_all := lw_g (lw_at lw_m11 24 rfl) rfl
theorem q2469 : (Jvm.Cond.methodLink "QuorumAlmanacModel$Node" (249 : Nat) ({ cls := "QuorumAlmanacModel$Node", name := "hasOwnCommitted", desc := "()Z" } : Jvm.MethodName)) ∈ lw_all := lw_g (lw_at lw_m11 25 rfl) rfl
theorem q2470 : (Jvm.Cond.instanceMethod ({ cls := "QuorumAlmanacModel$Node", name := "hasOwnCommitted", desc := "()Z" } : Jvm.MethodName)) ∈ lw_all := lw_g (lw_at lw_m11 26 rfl) rfl
theorem q2471 : (Jvm.Cond.selects "QuorumAlmanacModel$Node" ({ cls := "QuorumAlmanacModel$Node", name := "hasOwnCommitted", desc := "()Z" } : Jvm.MethodName) ({ cls := "QuorumAlmanacModel$Node", name := "hasOwnCommitted", desc := "()Z" } : Jvm.MethodName)) ∈ lw_all := lw_g (lw_at lw_m11 27 rfl) rfl
theorem q2472 : (Jvm.Cond.code ({ cls := "QuorumAlmanacModel$Node", name := "hasOwnCommitted", desc := "()Z" } : Jvm.MethodName) prog_22_method_21_code (3 : Nat) (Option.some Jvm.ClassFile.FieldType.boolean)) ∈ lw_all := lw_g (lw_at lw_m11 28 rfl) rfl
theorem q2473 : (Jvm.Cond.methodLink "QuorumAlmanacModel$Node" (270 : Nat) ({ cls := "QuorumAlmanacModel$Node", name := "follow", desc := "(I)V" } : Jvm.MethodName)) ∈ lw_all := lw_g (lw_at lw_m11 29 rfl) rfl
theorem q2474 : (Jvm.Cond.instanceMethod ({ cls := "QuorumAlmanacModel$Node", name := "follow", desc := "(I)V" } : Jvm.MethodName)) ∈ lw_all := lw_g (lw_at lw_m11 30 rfl) rfl
theorem q2475 : (Jvm.Cond.selects "QuorumAlmanacModel$Node" ({ cls := "QuorumAlmanacModel$Node", name := "follow", desc := "(I)V" } : Jvm.MethodName) ({ cls := "QuorumAlmanacModel$Node", name := "follow", desc := "(I)V" } : Jvm.MethodName)) ∈ lw_all := lw_g (lw_at lw_m11 31 rfl) rfl
theorem q2476 : (Jvm.Cond.code ({ cls := "QuorumAlmanacModel$Node", name := "follow", desc := "(I)V" } : Jvm.MethodName) prog_22_method_12_code (2 : Nat) (Option.none : Option Jvm.ClassFile.FieldType)) ∈ lw_all := lw_g (lw_at lw_m11 32 rfl) rfl
theorem q2477 : (Jvm.Cond.methodLink "QuorumAlmanacModel$Node" (279 : Nat) ({ cls := "QuorumAlmanacModel$Node", name := "isAnswered", desc := "(LQuorumAlmanacModel$Message;)V" } : Jvm.MethodName)) ∈ lw_all := lw_g (lw_at lw_m11 33 rfl) rfl
theorem q2478 : (Jvm.Cond.instanceMethod ({ cls := "QuorumAlmanacModel$Node", name := "isAnswered", desc := "(LQuorumAlmanacModel$Message;)V" } : Jvm.MethodName)) ∈ lw_all := lw_g (lw_at lw_m11 34 rfl) rfl
theorem q2479 : (Jvm.Cond.selects "QuorumAlmanacModel$Node" ({ cls := "QuorumAlmanacModel$Node", name := "isAnswered", desc := "(LQuorumAlmanacModel$Message;)V" } : Jvm.MethodName) ({ cls := "QuorumAlmanacModel$Node", name := "isAnswered", desc := "(LQuorumAlmanacModel$Message;)V" } : Jvm.MethodName)) ∈ lw_all := lw_g (lw_at lw_m11 35 rfl) rfl
theorem q2480 : (Jvm.Cond.code ({ cls := "QuorumAlmanacModel$Node", name := "isAnswered", desc := "(LQuorumAlmanacModel$Message;)V" } : Jvm.MethodName) prog_22_method_30_code (2 : Nat) (Option.none : Option Jvm.ClassFile.FieldType)) ∈ lw_all := lw_g (lw_at lw_m11 36 rfl) rfl
theorem q2481 : (Jvm.Cond.methodLink "QuorumAlmanacModel$Node" (285 : Nat) ({ cls := "QuorumAlmanacModel$Node", name := "gets", desc := "(LQuorumAlmanacModel$Message;)V" } : Jvm.MethodName)) ∈ lw_all := lw_g (lw_at lw_m11 37 rfl) rfl
theorem q2482 : (Jvm.Cond.instanceMethod ({ cls := "QuorumAlmanacModel$Node", name := "gets", desc := "(LQuorumAlmanacModel$Message;)V" } : Jvm.MethodName)) ∈ lw_all := lw_g (lw_at lw_m11 38 rfl) rfl
theorem q2483 : (Jvm.Cond.selects "QuorumAlmanacModel$Node" ({ cls := "QuorumAlmanacModel$Node", name := "gets", desc := "(LQuorumAlmanacModel$Message;)V" } : Jvm.MethodName) ({ cls := "QuorumAlmanacModel$Node", name := "gets", desc := "(LQuorumAlmanacModel$Message;)V" } : Jvm.MethodName)) ∈ lw_all := lw_g (lw_at lw_m11 39 rfl) rfl
theorem q2484 : (Jvm.Cond.code ({ cls := "QuorumAlmanacModel$Node", name := "gets", desc := "(LQuorumAlmanacModel$Message;)V" } : Jvm.MethodName) prog_22_method_26_code (6 : Nat) (Option.none : Option Jvm.ClassFile.FieldType)) ∈ lw_all := lw_g (lw_at lw_m11 40 rfl) rfl
theorem q2485 : (Jvm.Cond.methodLink "QuorumAlmanacModel$Node" (291 : Nat) ({ cls := "QuorumAlmanacModel$Node", name := "getsSnapshot", desc := "(LQuorumAlmanacModel$Snapshot;)V" } : Jvm.MethodName)) ∈ lw_all := lw_g (lw_at lw_m11 41 rfl) rfl
theorem q2486 : (Jvm.Cond.instanceMethod ({ cls := "QuorumAlmanacModel$Node", name := "getsSnapshot", desc := "(LQuorumAlmanacModel$Snapshot;)V" } : Jvm.MethodName)) ∈ lw_all := lw_g (lw_at lw_m11 42 rfl) rfl
theorem q2487 : (Jvm.Cond.selects "QuorumAlmanacModel$Node" ({ cls := "QuorumAlmanacModel$Node", name := "getsSnapshot", desc := "(LQuorumAlmanacModel$Snapshot;)V" } : Jvm.MethodName) ({ cls := "QuorumAlmanacModel$Node", name := "getsSnapshot", desc := "(LQuorumAlmanacModel$Snapshot;)V" } : Jvm.MethodName)) ∈ lw_all := lw_g (lw_at lw_m11 43 rfl) rfl
theorem q2488 : (Jvm.Cond.code ({ cls := "QuorumAlmanacModel$Node", name := "getsSnapshot", desc := "(LQuorumAlmanacModel$Snapshot;)V" } : Jvm.MethodName) prog_22_method_28_code (2 : Nat) (Option.none : Option Jvm.ClassFile.FieldType)) ∈ lw_all := lw_g (lw_at lw_m11 44 rfl) rfl
theorem q2489 : (Jvm.Cond.methodLink "QuorumAlmanacModel$Node" (298 : Nat) ({ cls := "QuorumAlmanacModel$Node", name := "has", desc := "(I)Z" } : Jvm.MethodName)) ∈ lw_all := lw_g (lw_at lw_m11 45 rfl) rfl
theorem q2551 : (Jvm.Cond.fieldLinkNest "QuorumAlmanacModel$Node" (154 : Nat) "QuorumAlmanacModel$Read" "node" "I" "QuorumAlmanacModel") ∈ lw_tbl := lw_at lw_m11 107 rfl
theorem q2554 : (Jvm.Cond.fieldLinkNest "QuorumAlmanacModel$Node" (259 : Nat) "QuorumAlmanacModel$Read" "key" "I" "QuorumAlmanacModel") ∈ lw_tbl := lw_at lw_m11 110 rfl
theorem q2556 : (Jvm.Cond.fieldLinkNest "QuorumAlmanacModel$Node" (255 : Nat) "QuorumAlmanacModel$Read" "round" "I" "QuorumAlmanacModel") ∈ lw_tbl := lw_at lw_m11 112 rfl
theorem q2558 : (Jvm.Cond.fieldLinkNest "QuorumAlmanacModel$Node" (157 : Nat) "QuorumAlmanacModel$Read" "state" "C" "QuorumAlmanacModel") ∈ lw_tbl := lw_at lw_m11 114 rfl
theorem q2560 : (Jvm.Cond.fieldLinkNest "QuorumAlmanacModel$Node" (262 : Nat) "QuorumAlmanacModel$Read" "value" "I" "QuorumAlmanacModel") ∈ lw_tbl := lw_at lw_m11 116 rfl
theorem q2639 : (Jvm.Cond.castable "QuorumAlmanacModel$Node" "java/lang/Object") ∈ lw_tbl := lw_at lw_m11 195 rfl
theorem in_X7 : ∀ w ∈ wsX70, w ∈ lw_all := lw_in wsX70 [2026, 2028, 2030, 2032, 2034, 2036, 2038, 2040, 2042, 2044, 2046, 2048, 2050, 2052, 2054, 2056, 2058, 2060, 2062, 2064, 2066, 2068] (by decide +kernel) (by decide +kernel)
