/-! QuorumAlmanacLaw -/
set_option maxRecDepth 100000
def RX0 : String := "QuorumAlmanacLaw"
abbrev cX0_cell : ByteArray := method_2_code
def yX0_cell : MethodName := ⟨RX0, "cell", "([II)I"⟩
def dkwX0_cell_0 : List UInt8 := [27, 42, 190, 162, 0, 9, 42, 27, 46, 167, 0, 4, 3, 172]
abbrev dktX0_cell_0 : List UInt8 := dkwX0_cell_0 ++ []
theorem dksX0_cell_0 : cX0_cell.data.toList.drop 0 = dktX0_cell_0 := by decide +kernel
theorem dX0_cell_0 : decode cX0_cell 0 = .ok (.iload_n 1, 1) := dk_27 (dk_at dksX0_cell_0 0 rfl rfl)
theorem dX0_cell_1 : decode cX0_cell 1 = .ok (.aload_n 0, 1) := dk_42 (dk_at dksX0_cell_0 1 rfl rfl)
theorem dX0_cell_2 : decode cX0_cell 2 = .ok (.arraylength, 1) := dk_190 (dk_at dksX0_cell_0 2 rfl rfl)
theorem dX0_cell_3 : decode cX0_cell 3 = .ok (.if_icmp .ge 9, 3) := dk_162 0 9 (dk_at dksX0_cell_0 3 rfl rfl)
theorem dX0_cell_6 : decode cX0_cell 6 = .ok (.aload_n 0, 1) := dk_42 (dk_at dksX0_cell_0 6 rfl rfl)
theorem dX0_cell_7 : decode cX0_cell 7 = .ok (.iload_n 1, 1) := dk_27 (dk_at dksX0_cell_0 7 rfl rfl)
theorem dX0_cell_8 : decode cX0_cell 8 = .ok (.iaload, 1) := dk_46 (dk_at dksX0_cell_0 8 rfl rfl)
theorem dX0_cell_9 : decode cX0_cell 9 = .ok (.goto 4, 3) := dk_167 0 4 (dk_at dksX0_cell_0 9 rfl rfl)
theorem dX0_cell_12 : decode cX0_cell 12 = .ok (.iconst 0, 1) := dk_3 (dk_at dksX0_cell_0 12 rfl rfl)
theorem dX0_cell_13 : decode cX0_cell 13 = .ok (.ireturn, 1) := dk_172 (dk_at dksX0_cell_0 13 rfl rfl)
abbrev cX0_tick : ByteArray := method_3_code
def yX0_tick : MethodName := ⟨RX0, "tick", "(LQuorumAlmanac;I[J)I"⟩
def dkwX0_tick_0 : List UInt8 := [44, 3, 42, 27, 182, 0, 7, 133, 80, 167, 0, 9, 78, 4, 172, 78, 5, 172, 3, 172]
abbrev dktX0_tick_0 : List UInt8 := dkwX0_tick_0 ++ []
theorem dksX0_tick_0 : cX0_tick.data.toList.drop 0 = dktX0_tick_0 := by decide +kernel
theorem dX0_tick_0 : decode cX0_tick 0 = .ok (.aload_n 2, 1) := dk_44 (dk_at dksX0_tick_0 0 rfl rfl)
theorem dX0_tick_1 : decode cX0_tick 1 = .ok (.iconst 0, 1) := dk_3 (dk_at dksX0_tick_0 1 rfl rfl)
theorem dX0_tick_2 : decode cX0_tick 2 = .ok (.aload_n 0, 1) := dk_42 (dk_at dksX0_tick_0 2 rfl rfl)
theorem dX0_tick_3 : decode cX0_tick 3 = .ok (.iload_n 1, 1) := dk_27 (dk_at dksX0_tick_0 3 rfl rfl)
theorem dX0_tick_4 : decode cX0_tick 4 = .ok (.invokevirtual 7, 3) := dk_182 0 7 (dk_at dksX0_tick_0 4 rfl rfl)
theorem dX0_tick_7 : decode cX0_tick 7 = .ok (.i2l, 1) := dk_133 (dk_at dksX0_tick_0 7 rfl rfl)
theorem dX0_tick_8 : decode cX0_tick 8 = .ok (.lastore, 1) := dk_80 (dk_at dksX0_tick_0 8 rfl rfl)
theorem dX0_tick_9 : decode cX0_tick 9 = .ok (.goto 9, 3) := dk_167 0 9 (dk_at dksX0_tick_0 9 rfl rfl)
theorem dX0_tick_12 : decode cX0_tick 12 = .ok (.astore_n 3, 1) := dk_78 (dk_at dksX0_tick_0 12 rfl rfl)
theorem dX0_tick_13 : decode cX0_tick 13 = .ok (.iconst 1, 1) := dk_4 (dk_at dksX0_tick_0 13 rfl rfl)
theorem dX0_tick_14 : decode cX0_tick 14 = .ok (.ireturn, 1) := dk_172 (dk_at dksX0_tick_0 14 rfl rfl)
theorem dX0_tick_15 : decode cX0_tick 15 = .ok (.astore_n 3, 1) := dk_78 (dk_at dksX0_tick_0 15 rfl rfl)
theorem dX0_tick_16 : decode cX0_tick 16 = .ok (.iconst 2, 1) := dk_5 (dk_at dksX0_tick_0 16 rfl rfl)
theorem dX0_tick_17 : decode cX0_tick 17 = .ok (.ireturn, 1) := dk_172 (dk_at dksX0_tick_0 17 rfl rfl)
theorem dX0_tick_18 : decode cX0_tick 18 = .ok (.iconst 0, 1) := dk_3 (dk_at dksX0_tick_0 18 rfl rfl)
theorem dX0_tick_19 : decode cX0_tick 19 = .ok (.ireturn, 1) := dk_172 (dk_at dksX0_tick_0 19 rfl rfl)
abbrev cX0_sync : ByteArray := method_4_code
def yX0_sync : MethodName := ⟨RX0, "sync", "(LQuorumAlmanac;I[J)I"⟩
def dkwX0_sync_0 : List UInt8 := [44, 3, 42, 27, 182, 0, 17, 133, 80, 167, 0, 9, 78, 4, 172, 78, 5, 172, 3, 172]
abbrev dktX0_sync_0 : List UInt8 := dkwX0_sync_0 ++ []
theorem dksX0_sync_0 : cX0_sync.data.toList.drop 0 = dktX0_sync_0 := by decide +kernel
theorem dX0_sync_0 : decode cX0_sync 0 = .ok (.aload_n 2, 1) := dk_44 (dk_at dksX0_sync_0 0 rfl rfl)
theorem dX0_sync_1 : decode cX0_sync 1 = .ok (.iconst 0, 1) := dk_3 (dk_at dksX0_sync_0 1 rfl rfl)
theorem dX0_sync_2 : decode cX0_sync 2 = .ok (.aload_n 0, 1) := dk_42 (dk_at dksX0_sync_0 2 rfl rfl)
theorem dX0_sync_3 : decode cX0_sync 3 = .ok (.iload_n 1, 1) := dk_27 (dk_at dksX0_sync_0 3 rfl rfl)
theorem dX0_sync_4 : decode cX0_sync 4 = .ok (.invokevirtual 17, 3) := dk_182 0 17 (dk_at dksX0_sync_0 4 rfl rfl)
theorem dX0_sync_7 : decode cX0_sync 7 = .ok (.i2l, 1) := dk_133 (dk_at dksX0_sync_0 7 rfl rfl)
theorem dX0_sync_8 : decode cX0_sync 8 = .ok (.lastore, 1) := dk_80 (dk_at dksX0_sync_0 8 rfl rfl)
theorem dX0_sync_9 : decode cX0_sync 9 = .ok (.goto 9, 3) := dk_167 0 9 (dk_at dksX0_sync_0 9 rfl rfl)
theorem dX0_sync_12 : decode cX0_sync 12 = .ok (.astore_n 3, 1) := dk_78 (dk_at dksX0_sync_0 12 rfl rfl)
theorem dX0_sync_13 : decode cX0_sync 13 = .ok (.iconst 1, 1) := dk_4 (dk_at dksX0_sync_0 13 rfl rfl)
theorem dX0_sync_14 : decode cX0_sync 14 = .ok (.ireturn, 1) := dk_172 (dk_at dksX0_sync_0 14 rfl rfl)
theorem dX0_sync_15 : decode cX0_sync 15 = .ok (.astore_n 3, 1) := dk_78 (dk_at dksX0_sync_0 15 rfl rfl)
theorem dX0_sync_16 : decode cX0_sync 16 = .ok (.iconst 2, 1) := dk_5 (dk_at dksX0_sync_0 16 rfl rfl)
theorem dX0_sync_17 : decode cX0_sync 17 = .ok (.ireturn, 1) := dk_172 (dk_at dksX0_sync_0 17 rfl rfl)
theorem dX0_sync_18 : decode cX0_sync 18 = .ok (.iconst 0, 1) := dk_3 (dk_at dksX0_sync_0 18 rfl rfl)
theorem dX0_sync_19 : decode cX0_sync 19 = .ok (.ireturn, 1) := dk_172 (dk_at dksX0_sync_0 19 rfl rfl)
abbrev cX0_crash : ByteArray := method_5_code
def yX0_crash : MethodName := ⟨RX0, "crash", "(LQuorumAlmanac;I[J)I"⟩
def dkwX0_crash_0 : List UInt8 := [44, 3, 42, 27, 182, 0, 20, 133, 80, 167, 0, 9, 78, 4, 172, 78, 5, 172, 3, 172]
abbrev dktX0_crash_0 : List UInt8 := dkwX0_crash_0 ++ []
theorem dksX0_crash_0 : cX0_crash.data.toList.drop 0 = dktX0_crash_0 := by decide +kernel
theorem dX0_crash_0 : decode cX0_crash 0 = .ok (.aload_n 2, 1) := dk_44 (dk_at dksX0_crash_0 0 rfl rfl)
theorem dX0_crash_1 : decode cX0_crash 1 = .ok (.iconst 0, 1) := dk_3 (dk_at dksX0_crash_0 1 rfl rfl)
theorem dX0_crash_2 : decode cX0_crash 2 = .ok (.aload_n 0, 1) := dk_42 (dk_at dksX0_crash_0 2 rfl rfl)
theorem dX0_crash_3 : decode cX0_crash 3 = .ok (.iload_n 1, 1) := dk_27 (dk_at dksX0_crash_0 3 rfl rfl)
theorem dX0_crash_4 : decode cX0_crash 4 = .ok (.invokevirtual 20, 3) := dk_182 0 20 (dk_at dksX0_crash_0 4 rfl rfl)
theorem dX0_crash_7 : decode cX0_crash 7 = .ok (.i2l, 1) := dk_133 (dk_at dksX0_crash_0 7 rfl rfl)
theorem dX0_crash_8 : decode cX0_crash 8 = .ok (.lastore, 1) := dk_80 (dk_at dksX0_crash_0 8 rfl rfl)
theorem dX0_crash_9 : decode cX0_crash 9 = .ok (.goto 9, 3) := dk_167 0 9 (dk_at dksX0_crash_0 9 rfl rfl)
theorem dX0_crash_12 : decode cX0_crash 12 = .ok (.astore_n 3, 1) := dk_78 (dk_at dksX0_crash_0 12 rfl rfl)
theorem dX0_crash_13 : decode cX0_crash 13 = .ok (.iconst 1, 1) := dk_4 (dk_at dksX0_crash_0 13 rfl rfl)
theorem dX0_crash_14 : decode cX0_crash 14 = .ok (.ireturn, 1) := dk_172 (dk_at dksX0_crash_0 14 rfl rfl)
theorem dX0_crash_15 : decode cX0_crash 15 = .ok (.astore_n 3, 1) := dk_78 (dk_at dksX0_crash_0 15 rfl rfl)
theorem dX0_crash_16 : decode cX0_crash 16 = .ok (.iconst 2, 1) := dk_5 (dk_at dksX0_crash_0 16 rfl rfl)
theorem dX0_crash_17 : decode cX0_crash 17 = .ok (.ireturn, 1) := dk_172 (dk_at dksX0_crash_0 17 rfl rfl)
theorem dX0_crash_18 : decode cX0_crash 18 = .ok (.iconst 0, 1) := dk_3 (dk_at dksX0_crash_0 18 rfl rfl)
theorem dX0_crash_19 : decode cX0_crash 19 = .ok (.ireturn, 1) := dk_172 (dk_at dksX0_crash_0 19 rfl rfl)
abbrev cX0_start : ByteArray := method_6_code
def yX0_start : MethodName := ⟨RX0, "start", "(LQuorumAlmanac;I[J)I"⟩
def dkwX0_start_0 : List UInt8 := [44, 3, 42, 27, 182, 0, 23, 133, 80, 167, 0, 9, 78, 4, 172, 78, 5, 172, 3, 172]
abbrev dktX0_start_0 : List UInt8 := dkwX0_start_0 ++ []
theorem dksX0_start_0 : cX0_start.data.toList.drop 0 = dktX0_start_0 := by decide +kernel
theorem dX0_start_0 : decode cX0_start 0 = .ok (.aload_n 2, 1) := dk_44 (dk_at dksX0_start_0 0 rfl rfl)
theorem dX0_start_1 : decode cX0_start 1 = .ok (.iconst 0, 1) := dk_3 (dk_at dksX0_start_0 1 rfl rfl)
theorem dX0_start_2 : decode cX0_start 2 = .ok (.aload_n 0, 1) := dk_42 (dk_at dksX0_start_0 2 rfl rfl)
theorem dX0_start_3 : decode cX0_start 3 = .ok (.iload_n 1, 1) := dk_27 (dk_at dksX0_start_0 3 rfl rfl)
theorem dX0_start_4 : decode cX0_start 4 = .ok (.invokevirtual 23, 3) := dk_182 0 23 (dk_at dksX0_start_0 4 rfl rfl)
theorem dX0_start_7 : decode cX0_start 7 = .ok (.i2l, 1) := dk_133 (dk_at dksX0_start_0 7 rfl rfl)
theorem dX0_start_8 : decode cX0_start 8 = .ok (.lastore, 1) := dk_80 (dk_at dksX0_start_0 8 rfl rfl)
theorem dX0_start_9 : decode cX0_start 9 = .ok (.goto 9, 3) := dk_167 0 9 (dk_at dksX0_start_0 9 rfl rfl)
theorem dX0_start_12 : decode cX0_start 12 = .ok (.astore_n 3, 1) := dk_78 (dk_at dksX0_start_0 12 rfl rfl)
theorem dX0_start_13 : decode cX0_start 13 = .ok (.iconst 1, 1) := dk_4 (dk_at dksX0_start_0 13 rfl rfl)
theorem dX0_start_14 : decode cX0_start 14 = .ok (.ireturn, 1) := dk_172 (dk_at dksX0_start_0 14 rfl rfl)
theorem dX0_start_15 : decode cX0_start 15 = .ok (.astore_n 3, 1) := dk_78 (dk_at dksX0_start_0 15 rfl rfl)
theorem dX0_start_16 : decode cX0_start 16 = .ok (.iconst 2, 1) := dk_5 (dk_at dksX0_start_0 16 rfl rfl)
theorem dX0_start_17 : decode cX0_start 17 = .ok (.ireturn, 1) := dk_172 (dk_at dksX0_start_0 17 rfl rfl)
theorem dX0_start_18 : decode cX0_start 18 = .ok (.iconst 0, 1) := dk_3 (dk_at dksX0_start_0 18 rfl rfl)
theorem dX0_start_19 : decode cX0_start 19 = .ok (.ireturn, 1) := dk_172 (dk_at dksX0_start_0 19 rfl rfl)
abbrev cX0_compact : ByteArray := method_7_code
def yX0_compact : MethodName := ⟨RX0, "compact", "(LQuorumAlmanac;I[J)I"⟩
def dkwX0_compact_0 : List UInt8 := [44, 3, 42, 27, 182, 0, 26, 133, 80, 167, 0, 9, 78, 4, 172, 78, 5, 172, 3, 172]
abbrev dktX0_compact_0 : List UInt8 := dkwX0_compact_0 ++ []
theorem dksX0_compact_0 : cX0_compact.data.toList.drop 0 = dktX0_compact_0 := by decide +kernel
theorem dX0_compact_0 : decode cX0_compact 0 = .ok (.aload_n 2, 1) := dk_44 (dk_at dksX0_compact_0 0 rfl rfl)
theorem dX0_compact_1 : decode cX0_compact 1 = .ok (.iconst 0, 1) := dk_3 (dk_at dksX0_compact_0 1 rfl rfl)
theorem dX0_compact_2 : decode cX0_compact 2 = .ok (.aload_n 0, 1) := dk_42 (dk_at dksX0_compact_0 2 rfl rfl)
theorem dX0_compact_3 : decode cX0_compact 3 = .ok (.iload_n 1, 1) := dk_27 (dk_at dksX0_compact_0 3 rfl rfl)
theorem dX0_compact_4 : decode cX0_compact 4 = .ok (.invokevirtual 26, 3) := dk_182 0 26 (dk_at dksX0_compact_0 4 rfl rfl)
theorem dX0_compact_7 : decode cX0_compact 7 = .ok (.i2l, 1) := dk_133 (dk_at dksX0_compact_0 7 rfl rfl)
theorem dX0_compact_8 : decode cX0_compact 8 = .ok (.lastore, 1) := dk_80 (dk_at dksX0_compact_0 8 rfl rfl)
theorem dX0_compact_9 : decode cX0_compact 9 = .ok (.goto 9, 3) := dk_167 0 9 (dk_at dksX0_compact_0 9 rfl rfl)
theorem dX0_compact_12 : decode cX0_compact 12 = .ok (.astore_n 3, 1) := dk_78 (dk_at dksX0_compact_0 12 rfl rfl)
theorem dX0_compact_13 : decode cX0_compact 13 = .ok (.iconst 1, 1) := dk_4 (dk_at dksX0_compact_0 13 rfl rfl)
theorem dX0_compact_14 : decode cX0_compact 14 = .ok (.ireturn, 1) := dk_172 (dk_at dksX0_compact_0 14 rfl rfl)
theorem dX0_compact_15 : decode cX0_compact 15 = .ok (.astore_n 3, 1) := dk_78 (dk_at dksX0_compact_0 15 rfl rfl)
theorem dX0_compact_16 : decode cX0_compact 16 = .ok (.iconst 2, 1) := dk_5 (dk_at dksX0_compact_0 16 rfl rfl)
theorem dX0_compact_17 : decode cX0_compact 17 = .ok (.ireturn, 1) := dk_172 (dk_at dksX0_compact_0 17 rfl rfl)
theorem dX0_compact_18 : decode cX0_compact 18 = .ok (.iconst 0, 1) := dk_3 (dk_at dksX0_compact_0 18 rfl rfl)
theorem dX0_compact_19 : decode cX0_compact 19 = .ok (.ireturn, 1) := dk_172 (dk_at dksX0_compact_0 19 rfl rfl)
abbrev cX0_role : ByteArray := method_8_code
def yX0_role : MethodName := ⟨RX0, "role", "(LQuorumAlmanac;I[J)I"⟩
def dkwX0_role_0 : List UInt8 := [44, 3, 42, 27, 182, 0, 29, 133, 80, 167, 0, 6, 78, 4, 172, 3, 172]
abbrev dktX0_role_0 : List UInt8 := dkwX0_role_0 ++ []
theorem dksX0_role_0 : cX0_role.data.toList.drop 0 = dktX0_role_0 := by decide +kernel
theorem dX0_role_0 : decode cX0_role 0 = .ok (.aload_n 2, 1) := dk_44 (dk_at dksX0_role_0 0 rfl rfl)
theorem dX0_role_1 : decode cX0_role 1 = .ok (.iconst 0, 1) := dk_3 (dk_at dksX0_role_0 1 rfl rfl)
theorem dX0_role_2 : decode cX0_role 2 = .ok (.aload_n 0, 1) := dk_42 (dk_at dksX0_role_0 2 rfl rfl)
theorem dX0_role_3 : decode cX0_role 3 = .ok (.iload_n 1, 1) := dk_27 (dk_at dksX0_role_0 3 rfl rfl)
theorem dX0_role_4 : decode cX0_role 4 = .ok (.invokevirtual 29, 3) := dk_182 0 29 (dk_at dksX0_role_0 4 rfl rfl)
theorem dX0_role_7 : decode cX0_role 7 = .ok (.i2l, 1) := dk_133 (dk_at dksX0_role_0 7 rfl rfl)
theorem dX0_role_8 : decode cX0_role 8 = .ok (.lastore, 1) := dk_80 (dk_at dksX0_role_0 8 rfl rfl)
theorem dX0_role_9 : decode cX0_role 9 = .ok (.goto 6, 3) := dk_167 0 6 (dk_at dksX0_role_0 9 rfl rfl)
theorem dX0_role_12 : decode cX0_role 12 = .ok (.astore_n 3, 1) := dk_78 (dk_at dksX0_role_0 12 rfl rfl)
theorem dX0_role_13 : decode cX0_role 13 = .ok (.iconst 1, 1) := dk_4 (dk_at dksX0_role_0 13 rfl rfl)
theorem dX0_role_14 : decode cX0_role 14 = .ok (.ireturn, 1) := dk_172 (dk_at dksX0_role_0 14 rfl rfl)
theorem dX0_role_15 : decode cX0_role 15 = .ok (.iconst 0, 1) := dk_3 (dk_at dksX0_role_0 15 rfl rfl)
theorem dX0_role_16 : decode cX0_role 16 = .ok (.ireturn, 1) := dk_172 (dk_at dksX0_role_0 16 rfl rfl)
abbrev cX0_term : ByteArray := method_9_code
def yX0_term : MethodName := ⟨RX0, "term", "(LQuorumAlmanac;I[J)I"⟩
def dkwX0_term_0 : List UInt8 := [44, 3, 42, 27, 182, 0, 33, 133, 80, 167, 0, 6, 78, 4, 172, 3, 172]
abbrev dktX0_term_0 : List UInt8 := dkwX0_term_0 ++ []
theorem dksX0_term_0 : cX0_term.data.toList.drop 0 = dktX0_term_0 := by decide +kernel
theorem dX0_term_0 : decode cX0_term 0 = .ok (.aload_n 2, 1) := dk_44 (dk_at dksX0_term_0 0 rfl rfl)
theorem dX0_term_1 : decode cX0_term 1 = .ok (.iconst 0, 1) := dk_3 (dk_at dksX0_term_0 1 rfl rfl)
theorem dX0_term_2 : decode cX0_term 2 = .ok (.aload_n 0, 1) := dk_42 (dk_at dksX0_term_0 2 rfl rfl)
theorem dX0_term_3 : decode cX0_term 3 = .ok (.iload_n 1, 1) := dk_27 (dk_at dksX0_term_0 3 rfl rfl)
theorem dX0_term_4 : decode cX0_term 4 = .ok (.invokevirtual 33, 3) := dk_182 0 33 (dk_at dksX0_term_0 4 rfl rfl)
theorem dX0_term_7 : decode cX0_term 7 = .ok (.i2l, 1) := dk_133 (dk_at dksX0_term_0 7 rfl rfl)
theorem dX0_term_8 : decode cX0_term 8 = .ok (.lastore, 1) := dk_80 (dk_at dksX0_term_0 8 rfl rfl)
theorem dX0_term_9 : decode cX0_term 9 = .ok (.goto 6, 3) := dk_167 0 6 (dk_at dksX0_term_0 9 rfl rfl)
theorem dX0_term_12 : decode cX0_term 12 = .ok (.astore_n 3, 1) := dk_78 (dk_at dksX0_term_0 12 rfl rfl)
theorem dX0_term_13 : decode cX0_term 13 = .ok (.iconst 1, 1) := dk_4 (dk_at dksX0_term_0 13 rfl rfl)
theorem dX0_term_14 : decode cX0_term 14 = .ok (.ireturn, 1) := dk_172 (dk_at dksX0_term_0 14 rfl rfl)
theorem dX0_term_15 : decode cX0_term 15 = .ok (.iconst 0, 1) := dk_3 (dk_at dksX0_term_0 15 rfl rfl)
theorem dX0_term_16 : decode cX0_term 16 = .ok (.ireturn, 1) := dk_172 (dk_at dksX0_term_0 16 rfl rfl)
abbrev cX0_vote : ByteArray := method_10_code
def yX0_vote : MethodName := ⟨RX0, "vote", "(LQuorumAlmanac;I[J)I"⟩
def dkwX0_vote_0 : List UInt8 := [44, 3, 42, 27, 182, 0, 36, 133, 80, 167, 0, 9, 78, 4, 172, 78, 5, 172, 3, 172]
abbrev dktX0_vote_0 : List UInt8 := dkwX0_vote_0 ++ []
theorem dksX0_vote_0 : cX0_vote.data.toList.drop 0 = dktX0_vote_0 := by decide +kernel
theorem dX0_vote_0 : decode cX0_vote 0 = .ok (.aload_n 2, 1) := dk_44 (dk_at dksX0_vote_0 0 rfl rfl)
theorem dX0_vote_1 : decode cX0_vote 1 = .ok (.iconst 0, 1) := dk_3 (dk_at dksX0_vote_0 1 rfl rfl)
theorem dX0_vote_2 : decode cX0_vote 2 = .ok (.aload_n 0, 1) := dk_42 (dk_at dksX0_vote_0 2 rfl rfl)
theorem dX0_vote_3 : decode cX0_vote 3 = .ok (.iload_n 1, 1) := dk_27 (dk_at dksX0_vote_0 3 rfl rfl)
theorem dX0_vote_4 : decode cX0_vote 4 = .ok (.invokevirtual 36, 3) := dk_182 0 36 (dk_at dksX0_vote_0 4 rfl rfl)
theorem dX0_vote_7 : decode cX0_vote 7 = .ok (.i2l, 1) := dk_133 (dk_at dksX0_vote_0 7 rfl rfl)
theorem dX0_vote_8 : decode cX0_vote 8 = .ok (.lastore, 1) := dk_80 (dk_at dksX0_vote_0 8 rfl rfl)
theorem dX0_vote_9 : decode cX0_vote 9 = .ok (.goto 9, 3) := dk_167 0 9 (dk_at dksX0_vote_0 9 rfl rfl)
theorem dX0_vote_12 : decode cX0_vote 12 = .ok (.astore_n 3, 1) := dk_78 (dk_at dksX0_vote_0 12 rfl rfl)
theorem dX0_vote_13 : decode cX0_vote 13 = .ok (.iconst 1, 1) := dk_4 (dk_at dksX0_vote_0 13 rfl rfl)
theorem dX0_vote_14 : decode cX0_vote 14 = .ok (.ireturn, 1) := dk_172 (dk_at dksX0_vote_0 14 rfl rfl)
theorem dX0_vote_15 : decode cX0_vote 15 = .ok (.astore_n 3, 1) := dk_78 (dk_at dksX0_vote_0 15 rfl rfl)
theorem dX0_vote_16 : decode cX0_vote 16 = .ok (.iconst 2, 1) := dk_5 (dk_at dksX0_vote_0 16 rfl rfl)
theorem dX0_vote_17 : decode cX0_vote 17 = .ok (.ireturn, 1) := dk_172 (dk_at dksX0_vote_0 17 rfl rfl)
theorem dX0_vote_18 : decode cX0_vote 18 = .ok (.iconst 0, 1) := dk_3 (dk_at dksX0_vote_0 18 rfl rfl)
theorem dX0_vote_19 : decode cX0_vote 19 = .ok (.ireturn, 1) := dk_172 (dk_at dksX0_vote_0 19 rfl rfl)
abbrev cX0_clock : ByteArray := method_11_code
def yX0_clock : MethodName := ⟨RX0, "clock", "(LQuorumAlmanac;I[J)I"⟩
def dkwX0_clock_0 : List UInt8 := [44, 3, 42, 27, 182, 0, 41, 133, 80, 167, 0, 6, 78, 4, 172, 3, 172]
abbrev dktX0_clock_0 : List UInt8 := dkwX0_clock_0 ++ []
theorem dksX0_clock_0 : cX0_clock.data.toList.drop 0 = dktX0_clock_0 := by decide +kernel
theorem dX0_clock_0 : decode cX0_clock 0 = .ok (.aload_n 2, 1) := dk_44 (dk_at dksX0_clock_0 0 rfl rfl)
theorem dX0_clock_1 : decode cX0_clock 1 = .ok (.iconst 0, 1) := dk_3 (dk_at dksX0_clock_0 1 rfl rfl)
theorem dX0_clock_2 : decode cX0_clock 2 = .ok (.aload_n 0, 1) := dk_42 (dk_at dksX0_clock_0 2 rfl rfl)
theorem dX0_clock_3 : decode cX0_clock 3 = .ok (.iload_n 1, 1) := dk_27 (dk_at dksX0_clock_0 3 rfl rfl)
theorem dX0_clock_4 : decode cX0_clock 4 = .ok (.invokevirtual 41, 3) := dk_182 0 41 (dk_at dksX0_clock_0 4 rfl rfl)
theorem dX0_clock_7 : decode cX0_clock 7 = .ok (.i2l, 1) := dk_133 (dk_at dksX0_clock_0 7 rfl rfl)
theorem dX0_clock_8 : decode cX0_clock 8 = .ok (.lastore, 1) := dk_80 (dk_at dksX0_clock_0 8 rfl rfl)
theorem dX0_clock_9 : decode cX0_clock 9 = .ok (.goto 6, 3) := dk_167 0 6 (dk_at dksX0_clock_0 9 rfl rfl)
theorem dX0_clock_12 : decode cX0_clock 12 = .ok (.astore_n 3, 1) := dk_78 (dk_at dksX0_clock_0 12 rfl rfl)
theorem dX0_clock_13 : decode cX0_clock 13 = .ok (.iconst 1, 1) := dk_4 (dk_at dksX0_clock_0 13 rfl rfl)
theorem dX0_clock_14 : decode cX0_clock 14 = .ok (.ireturn, 1) := dk_172 (dk_at dksX0_clock_0 14 rfl rfl)
theorem dX0_clock_15 : decode cX0_clock 15 = .ok (.iconst 0, 1) := dk_3 (dk_at dksX0_clock_0 15 rfl rfl)
theorem dX0_clock_16 : decode cX0_clock 16 = .ok (.ireturn, 1) := dk_172 (dk_at dksX0_clock_0 16 rfl rfl)
abbrev cX0_last : ByteArray := method_12_code
def yX0_last : MethodName := ⟨RX0, "last", "(LQuorumAlmanac;I[J)I"⟩
def dkwX0_last_0 : List UInt8 := [44, 3, 42, 27, 182, 0, 44, 133, 80, 167, 0, 6, 78, 4, 172, 3, 172]
abbrev dktX0_last_0 : List UInt8 := dkwX0_last_0 ++ []
theorem dksX0_last_0 : cX0_last.data.toList.drop 0 = dktX0_last_0 := by decide +kernel
theorem dX0_last_0 : decode cX0_last 0 = .ok (.aload_n 2, 1) := dk_44 (dk_at dksX0_last_0 0 rfl rfl)
theorem dX0_last_1 : decode cX0_last 1 = .ok (.iconst 0, 1) := dk_3 (dk_at dksX0_last_0 1 rfl rfl)
theorem dX0_last_2 : decode cX0_last 2 = .ok (.aload_n 0, 1) := dk_42 (dk_at dksX0_last_0 2 rfl rfl)
theorem dX0_last_3 : decode cX0_last 3 = .ok (.iload_n 1, 1) := dk_27 (dk_at dksX0_last_0 3 rfl rfl)
theorem dX0_last_4 : decode cX0_last 4 = .ok (.invokevirtual 44, 3) := dk_182 0 44 (dk_at dksX0_last_0 4 rfl rfl)
theorem dX0_last_7 : decode cX0_last 7 = .ok (.i2l, 1) := dk_133 (dk_at dksX0_last_0 7 rfl rfl)
theorem dX0_last_8 : decode cX0_last 8 = .ok (.lastore, 1) := dk_80 (dk_at dksX0_last_0 8 rfl rfl)
theorem dX0_last_9 : decode cX0_last 9 = .ok (.goto 6, 3) := dk_167 0 6 (dk_at dksX0_last_0 9 rfl rfl)
theorem dX0_last_12 : decode cX0_last 12 = .ok (.astore_n 3, 1) := dk_78 (dk_at dksX0_last_0 12 rfl rfl)
theorem dX0_last_13 : decode cX0_last 13 = .ok (.iconst 1, 1) := dk_4 (dk_at dksX0_last_0 13 rfl rfl)
theorem dX0_last_14 : decode cX0_last 14 = .ok (.ireturn, 1) := dk_172 (dk_at dksX0_last_0 14 rfl rfl)
theorem dX0_last_15 : decode cX0_last 15 = .ok (.iconst 0, 1) := dk_3 (dk_at dksX0_last_0 15 rfl rfl)
theorem dX0_last_16 : decode cX0_last 16 = .ok (.ireturn, 1) := dk_172 (dk_at dksX0_last_0 16 rfl rfl)
abbrev cX0_synced : ByteArray := method_13_code
def yX0_synced : MethodName := ⟨RX0, "synced", "(LQuorumAlmanac;I[J)I"⟩
def dkwX0_synced_0 : List UInt8 := [44, 3, 42, 27, 182, 0, 47, 133, 80, 167, 0, 6, 78, 4, 172, 3, 172]
abbrev dktX0_synced_0 : List UInt8 := dkwX0_synced_0 ++ []
theorem dksX0_synced_0 : cX0_synced.data.toList.drop 0 = dktX0_synced_0 := by decide +kernel
theorem dX0_synced_0 : decode cX0_synced 0 = .ok (.aload_n 2, 1) := dk_44 (dk_at dksX0_synced_0 0 rfl rfl)
theorem dX0_synced_1 : decode cX0_synced 1 = .ok (.iconst 0, 1) := dk_3 (dk_at dksX0_synced_0 1 rfl rfl)
theorem dX0_synced_2 : decode cX0_synced 2 = .ok (.aload_n 0, 1) := dk_42 (dk_at dksX0_synced_0 2 rfl rfl)
theorem dX0_synced_3 : decode cX0_synced 3 = .ok (.iload_n 1, 1) := dk_27 (dk_at dksX0_synced_0 3 rfl rfl)
theorem dX0_synced_4 : decode cX0_synced 4 = .ok (.invokevirtual 47, 3) := dk_182 0 47 (dk_at dksX0_synced_0 4 rfl rfl)
theorem dX0_synced_7 : decode cX0_synced 7 = .ok (.i2l, 1) := dk_133 (dk_at dksX0_synced_0 7 rfl rfl)
theorem dX0_synced_8 : decode cX0_synced 8 = .ok (.lastore, 1) := dk_80 (dk_at dksX0_synced_0 8 rfl rfl)
theorem dX0_synced_9 : decode cX0_synced 9 = .ok (.goto 6, 3) := dk_167 0 6 (dk_at dksX0_synced_0 9 rfl rfl)
theorem dX0_synced_12 : decode cX0_synced 12 = .ok (.astore_n 3, 1) := dk_78 (dk_at dksX0_synced_0 12 rfl rfl)
theorem dX0_synced_13 : decode cX0_synced 13 = .ok (.iconst 1, 1) := dk_4 (dk_at dksX0_synced_0 13 rfl rfl)
theorem dX0_synced_14 : decode cX0_synced 14 = .ok (.ireturn, 1) := dk_172 (dk_at dksX0_synced_0 14 rfl rfl)
theorem dX0_synced_15 : decode cX0_synced 15 = .ok (.iconst 0, 1) := dk_3 (dk_at dksX0_synced_0 15 rfl rfl)
theorem dX0_synced_16 : decode cX0_synced 16 = .ok (.ireturn, 1) := dk_172 (dk_at dksX0_synced_0 16 rfl rfl)
abbrev cX0_committed : ByteArray := method_14_code
def yX0_committed : MethodName := ⟨RX0, "committed", "(LQuorumAlmanac;I[J)I"⟩
def dkwX0_committed_0 : List UInt8 := [44, 3, 42, 27, 182, 0, 50, 133, 80, 167, 0, 6, 78, 4, 172, 3, 172]
abbrev dktX0_committed_0 : List UInt8 := dkwX0_committed_0 ++ []
theorem dksX0_committed_0 : cX0_committed.data.toList.drop 0 = dktX0_committed_0 := by decide +kernel
theorem dX0_committed_0 : decode cX0_committed 0 = .ok (.aload_n 2, 1) := dk_44 (dk_at dksX0_committed_0 0 rfl rfl)
theorem dX0_committed_1 : decode cX0_committed 1 = .ok (.iconst 0, 1) := dk_3 (dk_at dksX0_committed_0 1 rfl rfl)
theorem dX0_committed_2 : decode cX0_committed 2 = .ok (.aload_n 0, 1) := dk_42 (dk_at dksX0_committed_0 2 rfl rfl)
theorem dX0_committed_3 : decode cX0_committed 3 = .ok (.iload_n 1, 1) := dk_27 (dk_at dksX0_committed_0 3 rfl rfl)
theorem dX0_committed_4 : decode cX0_committed 4 = .ok (.invokevirtual 50, 3) := dk_182 0 50 (dk_at dksX0_committed_0 4 rfl rfl)
theorem dX0_committed_7 : decode cX0_committed 7 = .ok (.i2l, 1) := dk_133 (dk_at dksX0_committed_0 7 rfl rfl)
theorem dX0_committed_8 : decode cX0_committed 8 = .ok (.lastore, 1) := dk_80 (dk_at dksX0_committed_0 8 rfl rfl)
theorem dX0_committed_9 : decode cX0_committed 9 = .ok (.goto 6, 3) := dk_167 0 6 (dk_at dksX0_committed_0 9 rfl rfl)
theorem dX0_committed_12 : decode cX0_committed 12 = .ok (.astore_n 3, 1) := dk_78 (dk_at dksX0_committed_0 12 rfl rfl)
theorem dX0_committed_13 : decode cX0_committed 13 = .ok (.iconst 1, 1) := dk_4 (dk_at dksX0_committed_0 13 rfl rfl)
theorem dX0_committed_14 : decode cX0_committed 14 = .ok (.ireturn, 1) := dk_172 (dk_at dksX0_committed_0 14 rfl rfl)
theorem dX0_committed_15 : decode cX0_committed 15 = .ok (.iconst 0, 1) := dk_3 (dk_at dksX0_committed_0 15 rfl rfl)
theorem dX0_committed_16 : decode cX0_committed 16 = .ok (.ireturn, 1) := dk_172 (dk_at dksX0_committed_0 16 rfl rfl)
abbrev cX0_snapshot : ByteArray := method_15_code
def yX0_snapshot : MethodName := ⟨RX0, "snapshot", "(LQuorumAlmanac;I[J)I"⟩
def dkwX0_snapshot_0 : List UInt8 := [44, 3, 42, 27, 182, 0, 53, 133, 80, 167, 0, 6, 78, 4, 172, 3, 172]
abbrev dktX0_snapshot_0 : List UInt8 := dkwX0_snapshot_0 ++ []
theorem dksX0_snapshot_0 : cX0_snapshot.data.toList.drop 0 = dktX0_snapshot_0 := by decide +kernel
theorem dX0_snapshot_0 : decode cX0_snapshot 0 = .ok (.aload_n 2, 1) := dk_44 (dk_at dksX0_snapshot_0 0 rfl rfl)
theorem dX0_snapshot_1 : decode cX0_snapshot 1 = .ok (.iconst 0, 1) := dk_3 (dk_at dksX0_snapshot_0 1 rfl rfl)
theorem dX0_snapshot_2 : decode cX0_snapshot 2 = .ok (.aload_n 0, 1) := dk_42 (dk_at dksX0_snapshot_0 2 rfl rfl)
theorem dX0_snapshot_3 : decode cX0_snapshot 3 = .ok (.iload_n 1, 1) := dk_27 (dk_at dksX0_snapshot_0 3 rfl rfl)
theorem dX0_snapshot_4 : decode cX0_snapshot 4 = .ok (.invokevirtual 53, 3) := dk_182 0 53 (dk_at dksX0_snapshot_0 4 rfl rfl)
theorem dX0_snapshot_7 : decode cX0_snapshot 7 = .ok (.i2l, 1) := dk_133 (dk_at dksX0_snapshot_0 7 rfl rfl)
theorem dX0_snapshot_8 : decode cX0_snapshot 8 = .ok (.lastore, 1) := dk_80 (dk_at dksX0_snapshot_0 8 rfl rfl)
theorem dX0_snapshot_9 : decode cX0_snapshot 9 = .ok (.goto 6, 3) := dk_167 0 6 (dk_at dksX0_snapshot_0 9 rfl rfl)
theorem dX0_snapshot_12 : decode cX0_snapshot 12 = .ok (.astore_n 3, 1) := dk_78 (dk_at dksX0_snapshot_0 12 rfl rfl)
theorem dX0_snapshot_13 : decode cX0_snapshot 13 = .ok (.iconst 1, 1) := dk_4 (dk_at dksX0_snapshot_0 13 rfl rfl)
theorem dX0_snapshot_14 : decode cX0_snapshot 14 = .ok (.ireturn, 1) := dk_172 (dk_at dksX0_snapshot_0 14 rfl rfl)
theorem dX0_snapshot_15 : decode cX0_snapshot 15 = .ok (.iconst 0, 1) := dk_3 (dk_at dksX0_snapshot_0 15 rfl rfl)
theorem dX0_snapshot_16 : decode cX0_snapshot 16 = .ok (.ireturn, 1) := dk_172 (dk_at dksX0_snapshot_0 16 rfl rfl)
abbrev cX0_members : ByteArray := method_16_code
def yX0_members : MethodName := ⟨RX0, "members", "(LQuorumAlmanac;I[J)I"⟩
def dkwX0_members_0 : List UInt8 := [44, 3, 42, 27, 182, 0, 56, 133, 80, 167, 0, 6, 78, 4, 172, 3, 172]
abbrev dktX0_members_0 : List UInt8 := dkwX0_members_0 ++ []
theorem dksX0_members_0 : cX0_members.data.toList.drop 0 = dktX0_members_0 := by decide +kernel
theorem dX0_members_0 : decode cX0_members 0 = .ok (.aload_n 2, 1) := dk_44 (dk_at dksX0_members_0 0 rfl rfl)
theorem dX0_members_1 : decode cX0_members 1 = .ok (.iconst 0, 1) := dk_3 (dk_at dksX0_members_0 1 rfl rfl)
theorem dX0_members_2 : decode cX0_members 2 = .ok (.aload_n 0, 1) := dk_42 (dk_at dksX0_members_0 2 rfl rfl)
theorem dX0_members_3 : decode cX0_members 3 = .ok (.iload_n 1, 1) := dk_27 (dk_at dksX0_members_0 3 rfl rfl)
theorem dX0_members_4 : decode cX0_members 4 = .ok (.invokevirtual 56, 3) := dk_182 0 56 (dk_at dksX0_members_0 4 rfl rfl)
theorem dX0_members_7 : decode cX0_members 7 = .ok (.i2l, 1) := dk_133 (dk_at dksX0_members_0 7 rfl rfl)
theorem dX0_members_8 : decode cX0_members 8 = .ok (.lastore, 1) := dk_80 (dk_at dksX0_members_0 8 rfl rfl)
theorem dX0_members_9 : decode cX0_members 9 = .ok (.goto 6, 3) := dk_167 0 6 (dk_at dksX0_members_0 9 rfl rfl)
theorem dX0_members_12 : decode cX0_members 12 = .ok (.astore_n 3, 1) := dk_78 (dk_at dksX0_members_0 12 rfl rfl)
theorem dX0_members_13 : decode cX0_members 13 = .ok (.iconst 1, 1) := dk_4 (dk_at dksX0_members_0 13 rfl rfl)
theorem dX0_members_14 : decode cX0_members 14 = .ok (.ireturn, 1) := dk_172 (dk_at dksX0_members_0 14 rfl rfl)
theorem dX0_members_15 : decode cX0_members 15 = .ok (.iconst 0, 1) := dk_3 (dk_at dksX0_members_0 15 rfl rfl)
theorem dX0_members_16 : decode cX0_members 16 = .ok (.ireturn, 1) := dk_172 (dk_at dksX0_members_0 16 rfl rfl)
abbrev cX0_entryTerm : ByteArray := method_17_code
def yX0_entryTerm : MethodName := ⟨RX0, "entryTerm", "(LQuorumAlmanac;II[J)I"⟩
def dkwX0_entryTerm_0 : List UInt8 := [45, 3, 42, 27, 28, 182, 0, 59, 133, 80, 167, 0, 11, 58, 4, 4, 172, 58, 4, 5, 172, 3, 172]
abbrev dktX0_entryTerm_0 : List UInt8 := dkwX0_entryTerm_0 ++ []
theorem dksX0_entryTerm_0 : cX0_entryTerm.data.toList.drop 0 = dktX0_entryTerm_0 := by decide +kernel
theorem dX0_entryTerm_0 : decode cX0_entryTerm 0 = .ok (.aload_n 3, 1) := dk_45 (dk_at dksX0_entryTerm_0 0 rfl rfl)
theorem dX0_entryTerm_1 : decode cX0_entryTerm 1 = .ok (.iconst 0, 1) := dk_3 (dk_at dksX0_entryTerm_0 1 rfl rfl)
theorem dX0_entryTerm_2 : decode cX0_entryTerm 2 = .ok (.aload_n 0, 1) := dk_42 (dk_at dksX0_entryTerm_0 2 rfl rfl)
theorem dX0_entryTerm_3 : decode cX0_entryTerm 3 = .ok (.iload_n 1, 1) := dk_27 (dk_at dksX0_entryTerm_0 3 rfl rfl)
theorem dX0_entryTerm_4 : decode cX0_entryTerm 4 = .ok (.iload_n 2, 1) := dk_28 (dk_at dksX0_entryTerm_0 4 rfl rfl)
theorem dX0_entryTerm_5 : decode cX0_entryTerm 5 = .ok (.invokevirtual 59, 3) := dk_182 0 59 (dk_at dksX0_entryTerm_0 5 rfl rfl)
theorem dX0_entryTerm_8 : decode cX0_entryTerm 8 = .ok (.i2l, 1) := dk_133 (dk_at dksX0_entryTerm_0 8 rfl rfl)
theorem dX0_entryTerm_9 : decode cX0_entryTerm 9 = .ok (.lastore, 1) := dk_80 (dk_at dksX0_entryTerm_0 9 rfl rfl)
theorem dX0_entryTerm_10 : decode cX0_entryTerm 10 = .ok (.goto 11, 3) := dk_167 0 11 (dk_at dksX0_entryTerm_0 10 rfl rfl)
theorem dX0_entryTerm_13 : decode cX0_entryTerm 13 = .ok (.astore 4, 2) := dk_58 4 (dk_at dksX0_entryTerm_0 13 rfl rfl)
theorem dX0_entryTerm_15 : decode cX0_entryTerm 15 = .ok (.iconst 1, 1) := dk_4 (dk_at dksX0_entryTerm_0 15 rfl rfl)
theorem dX0_entryTerm_16 : decode cX0_entryTerm 16 = .ok (.ireturn, 1) := dk_172 (dk_at dksX0_entryTerm_0 16 rfl rfl)
theorem dX0_entryTerm_17 : decode cX0_entryTerm 17 = .ok (.astore 4, 2) := dk_58 4 (dk_at dksX0_entryTerm_0 17 rfl rfl)
theorem dX0_entryTerm_19 : decode cX0_entryTerm 19 = .ok (.iconst 2, 1) := dk_5 (dk_at dksX0_entryTerm_0 19 rfl rfl)
theorem dX0_entryTerm_20 : decode cX0_entryTerm 20 = .ok (.ireturn, 1) := dk_172 (dk_at dksX0_entryTerm_0 20 rfl rfl)
theorem dX0_entryTerm_21 : decode cX0_entryTerm 21 = .ok (.iconst 0, 1) := dk_3 (dk_at dksX0_entryTerm_0 21 rfl rfl)
theorem dX0_entryTerm_22 : decode cX0_entryTerm 22 = .ok (.ireturn, 1) := dk_172 (dk_at dksX0_entryTerm_0 22 rfl rfl)
abbrev cX0_entryKind : ByteArray := method_18_code
def yX0_entryKind : MethodName := ⟨RX0, "entryKind", "(LQuorumAlmanac;II[J)I"⟩
def dkwX0_entryKind_0 : List UInt8 := [45, 3, 42, 27, 28, 182, 0, 63, 133, 80, 167, 0, 11, 58, 4, 4, 172, 58, 4, 5, 172, 3, 172]
abbrev dktX0_entryKind_0 : List UInt8 := dkwX0_entryKind_0 ++ []
theorem dksX0_entryKind_0 : cX0_entryKind.data.toList.drop 0 = dktX0_entryKind_0 := by decide +kernel
theorem dX0_entryKind_0 : decode cX0_entryKind 0 = .ok (.aload_n 3, 1) := dk_45 (dk_at dksX0_entryKind_0 0 rfl rfl)
theorem dX0_entryKind_1 : decode cX0_entryKind 1 = .ok (.iconst 0, 1) := dk_3 (dk_at dksX0_entryKind_0 1 rfl rfl)
theorem dX0_entryKind_2 : decode cX0_entryKind 2 = .ok (.aload_n 0, 1) := dk_42 (dk_at dksX0_entryKind_0 2 rfl rfl)
theorem dX0_entryKind_3 : decode cX0_entryKind 3 = .ok (.iload_n 1, 1) := dk_27 (dk_at dksX0_entryKind_0 3 rfl rfl)
theorem dX0_entryKind_4 : decode cX0_entryKind 4 = .ok (.iload_n 2, 1) := dk_28 (dk_at dksX0_entryKind_0 4 rfl rfl)
theorem dX0_entryKind_5 : decode cX0_entryKind 5 = .ok (.invokevirtual 63, 3) := dk_182 0 63 (dk_at dksX0_entryKind_0 5 rfl rfl)
theorem dX0_entryKind_8 : decode cX0_entryKind 8 = .ok (.i2l, 1) := dk_133 (dk_at dksX0_entryKind_0 8 rfl rfl)
theorem dX0_entryKind_9 : decode cX0_entryKind 9 = .ok (.lastore, 1) := dk_80 (dk_at dksX0_entryKind_0 9 rfl rfl)
theorem dX0_entryKind_10 : decode cX0_entryKind 10 = .ok (.goto 11, 3) := dk_167 0 11 (dk_at dksX0_entryKind_0 10 rfl rfl)
theorem dX0_entryKind_13 : decode cX0_entryKind 13 = .ok (.astore 4, 2) := dk_58 4 (dk_at dksX0_entryKind_0 13 rfl rfl)
theorem dX0_entryKind_15 : decode cX0_entryKind 15 = .ok (.iconst 1, 1) := dk_4 (dk_at dksX0_entryKind_0 15 rfl rfl)
theorem dX0_entryKind_16 : decode cX0_entryKind 16 = .ok (.ireturn, 1) := dk_172 (dk_at dksX0_entryKind_0 16 rfl rfl)
theorem dX0_entryKind_17 : decode cX0_entryKind 17 = .ok (.astore 4, 2) := dk_58 4 (dk_at dksX0_entryKind_0 17 rfl rfl)
theorem dX0_entryKind_19 : decode cX0_entryKind 19 = .ok (.iconst 2, 1) := dk_5 (dk_at dksX0_entryKind_0 19 rfl rfl)
theorem dX0_entryKind_20 : decode cX0_entryKind 20 = .ok (.ireturn, 1) := dk_172 (dk_at dksX0_entryKind_0 20 rfl rfl)
theorem dX0_entryKind_21 : decode cX0_entryKind 21 = .ok (.iconst 0, 1) := dk_3 (dk_at dksX0_entryKind_0 21 rfl rfl)
theorem dX0_entryKind_22 : decode cX0_entryKind 22 = .ok (.ireturn, 1) := dk_172 (dk_at dksX0_entryKind_0 22 rfl rfl)
abbrev cX0_earliest : ByteArray := method_19_code
def yX0_earliest : MethodName := ⟨RX0, "earliest", "(LQuorumAlmanac;[J)I"⟩
def dkwX0_earliest_0 : List UInt8 := [43, 3, 42, 182, 0, 67, 133, 80, 167, 0, 6, 77, 4, 172, 3, 172]
abbrev dktX0_earliest_0 : List UInt8 := dkwX0_earliest_0 ++ []
theorem dksX0_earliest_0 : cX0_earliest.data.toList.drop 0 = dktX0_earliest_0 := by decide +kernel
theorem dX0_earliest_0 : decode cX0_earliest 0 = .ok (.aload_n 1, 1) := dk_43 (dk_at dksX0_earliest_0 0 rfl rfl)
theorem dX0_earliest_1 : decode cX0_earliest 1 = .ok (.iconst 0, 1) := dk_3 (dk_at dksX0_earliest_0 1 rfl rfl)
theorem dX0_earliest_2 : decode cX0_earliest 2 = .ok (.aload_n 0, 1) := dk_42 (dk_at dksX0_earliest_0 2 rfl rfl)
theorem dX0_earliest_3 : decode cX0_earliest 3 = .ok (.invokevirtual 67, 3) := dk_182 0 67 (dk_at dksX0_earliest_0 3 rfl rfl)
theorem dX0_earliest_6 : decode cX0_earliest 6 = .ok (.i2l, 1) := dk_133 (dk_at dksX0_earliest_0 6 rfl rfl)
theorem dX0_earliest_7 : decode cX0_earliest 7 = .ok (.lastore, 1) := dk_80 (dk_at dksX0_earliest_0 7 rfl rfl)
theorem dX0_earliest_8 : decode cX0_earliest 8 = .ok (.goto 6, 3) := dk_167 0 6 (dk_at dksX0_earliest_0 8 rfl rfl)
theorem dX0_earliest_11 : decode cX0_earliest 11 = .ok (.astore_n 2, 1) := dk_77 (dk_at dksX0_earliest_0 11 rfl rfl)
theorem dX0_earliest_12 : decode cX0_earliest 12 = .ok (.iconst 1, 1) := dk_4 (dk_at dksX0_earliest_0 12 rfl rfl)
theorem dX0_earliest_13 : decode cX0_earliest 13 = .ok (.ireturn, 1) := dk_172 (dk_at dksX0_earliest_0 13 rfl rfl)
theorem dX0_earliest_14 : decode cX0_earliest 14 = .ok (.iconst 0, 1) := dk_3 (dk_at dksX0_earliest_0 14 rfl rfl)
theorem dX0_earliest_15 : decode cX0_earliest 15 = .ok (.ireturn, 1) := dk_172 (dk_at dksX0_earliest_0 15 rfl rfl)
abbrev cX0_kindOf : ByteArray := method_20_code
def yX0_kindOf : MethodName := ⟨RX0, "kindOf", "(LQuorumAlmanac;I[J)I"⟩
def dkwX0_kindOf_0 : List UInt8 := [44, 3, 42, 27, 182, 0, 71, 133, 80, 167, 0, 6, 78, 4, 172, 3, 172]
abbrev dktX0_kindOf_0 : List UInt8 := dkwX0_kindOf_0 ++ []
theorem dksX0_kindOf_0 : cX0_kindOf.data.toList.drop 0 = dktX0_kindOf_0 := by decide +kernel
theorem dX0_kindOf_0 : decode cX0_kindOf 0 = .ok (.aload_n 2, 1) := dk_44 (dk_at dksX0_kindOf_0 0 rfl rfl)
theorem dX0_kindOf_1 : decode cX0_kindOf 1 = .ok (.iconst 0, 1) := dk_3 (dk_at dksX0_kindOf_0 1 rfl rfl)
theorem dX0_kindOf_2 : decode cX0_kindOf 2 = .ok (.aload_n 0, 1) := dk_42 (dk_at dksX0_kindOf_0 2 rfl rfl)
theorem dX0_kindOf_3 : decode cX0_kindOf 3 = .ok (.iload_n 1, 1) := dk_27 (dk_at dksX0_kindOf_0 3 rfl rfl)
theorem dX0_kindOf_4 : decode cX0_kindOf 4 = .ok (.invokevirtual 71, 3) := dk_182 0 71 (dk_at dksX0_kindOf_0 4 rfl rfl)
theorem dX0_kindOf_7 : decode cX0_kindOf 7 = .ok (.i2l, 1) := dk_133 (dk_at dksX0_kindOf_0 7 rfl rfl)
theorem dX0_kindOf_8 : decode cX0_kindOf 8 = .ok (.lastore, 1) := dk_80 (dk_at dksX0_kindOf_0 8 rfl rfl)
theorem dX0_kindOf_9 : decode cX0_kindOf 9 = .ok (.goto 6, 3) := dk_167 0 6 (dk_at dksX0_kindOf_0 9 rfl rfl)
theorem dX0_kindOf_12 : decode cX0_kindOf 12 = .ok (.astore_n 3, 1) := dk_78 (dk_at dksX0_kindOf_0 12 rfl rfl)
theorem dX0_kindOf_13 : decode cX0_kindOf 13 = .ok (.iconst 1, 1) := dk_4 (dk_at dksX0_kindOf_0 13 rfl rfl)
theorem dX0_kindOf_14 : decode cX0_kindOf 14 = .ok (.ireturn, 1) := dk_172 (dk_at dksX0_kindOf_0 14 rfl rfl)
theorem dX0_kindOf_15 : decode cX0_kindOf 15 = .ok (.iconst 0, 1) := dk_3 (dk_at dksX0_kindOf_0 15 rfl rfl)
theorem dX0_kindOf_16 : decode cX0_kindOf 16 = .ok (.ireturn, 1) := dk_172 (dk_at dksX0_kindOf_0 16 rfl rfl)
abbrev cX0_between : ByteArray := method_21_code
def yX0_between : MethodName := ⟨RX0, "between", "(LQuorumAlmanac;I[J)I"⟩
def dkwX0_between_0 : List UInt8 := [44, 3, 42, 27, 182, 0, 74, 133, 80, 167, 0, 6, 78, 4, 172, 3, 172]
abbrev dktX0_between_0 : List UInt8 := dkwX0_between_0 ++ []
theorem dksX0_between_0 : cX0_between.data.toList.drop 0 = dktX0_between_0 := by decide +kernel
theorem dX0_between_0 : decode cX0_between 0 = .ok (.aload_n 2, 1) := dk_44 (dk_at dksX0_between_0 0 rfl rfl)
theorem dX0_between_1 : decode cX0_between 1 = .ok (.iconst 0, 1) := dk_3 (dk_at dksX0_between_0 1 rfl rfl)
theorem dX0_between_2 : decode cX0_between 2 = .ok (.aload_n 0, 1) := dk_42 (dk_at dksX0_between_0 2 rfl rfl)
theorem dX0_between_3 : decode cX0_between 3 = .ok (.iload_n 1, 1) := dk_27 (dk_at dksX0_between_0 3 rfl rfl)
theorem dX0_between_4 : decode cX0_between 4 = .ok (.invokevirtual 74, 3) := dk_182 0 74 (dk_at dksX0_between_0 4 rfl rfl)
theorem dX0_between_7 : decode cX0_between 7 = .ok (.i2l, 1) := dk_133 (dk_at dksX0_between_0 7 rfl rfl)
theorem dX0_between_8 : decode cX0_between 8 = .ok (.lastore, 1) := dk_80 (dk_at dksX0_between_0 8 rfl rfl)
theorem dX0_between_9 : decode cX0_between 9 = .ok (.goto 6, 3) := dk_167 0 6 (dk_at dksX0_between_0 9 rfl rfl)
theorem dX0_between_12 : decode cX0_between 12 = .ok (.astore_n 3, 1) := dk_78 (dk_at dksX0_between_0 12 rfl rfl)
theorem dX0_between_13 : decode cX0_between 13 = .ok (.iconst 1, 1) := dk_4 (dk_at dksX0_between_0 13 rfl rfl)
theorem dX0_between_14 : decode cX0_between 14 = .ok (.ireturn, 1) := dk_172 (dk_at dksX0_between_0 14 rfl rfl)
theorem dX0_between_15 : decode cX0_between 15 = .ok (.iconst 0, 1) := dk_3 (dk_at dksX0_between_0 15 rfl rfl)
theorem dX0_between_16 : decode cX0_between 16 = .ok (.ireturn, 1) := dk_172 (dk_at dksX0_between_0 16 rfl rfl)
abbrev cX0_deliver : ByteArray := method_22_code
def yX0_deliver : MethodName := ⟨RX0, "deliver", "(LQuorumAlmanac;I[J)I"⟩
def dkwX0_deliver_0 : List UInt8 := [44, 3, 42, 27, 182, 0, 77, 133, 80, 167, 0, 6, 78, 4, 172, 3, 172]
abbrev dktX0_deliver_0 : List UInt8 := dkwX0_deliver_0 ++ []
theorem dksX0_deliver_0 : cX0_deliver.data.toList.drop 0 = dktX0_deliver_0 := by decide +kernel
theorem dX0_deliver_0 : decode cX0_deliver 0 = .ok (.aload_n 2, 1) := dk_44 (dk_at dksX0_deliver_0 0 rfl rfl)
theorem dX0_deliver_1 : decode cX0_deliver 1 = .ok (.iconst 0, 1) := dk_3 (dk_at dksX0_deliver_0 1 rfl rfl)
theorem dX0_deliver_2 : decode cX0_deliver 2 = .ok (.aload_n 0, 1) := dk_42 (dk_at dksX0_deliver_0 2 rfl rfl)
theorem dX0_deliver_3 : decode cX0_deliver 3 = .ok (.iload_n 1, 1) := dk_27 (dk_at dksX0_deliver_0 3 rfl rfl)
theorem dX0_deliver_4 : decode cX0_deliver 4 = .ok (.invokevirtual 77, 3) := dk_182 0 77 (dk_at dksX0_deliver_0 4 rfl rfl)
theorem dX0_deliver_7 : decode cX0_deliver 7 = .ok (.i2l, 1) := dk_133 (dk_at dksX0_deliver_0 7 rfl rfl)
theorem dX0_deliver_8 : decode cX0_deliver 8 = .ok (.lastore, 1) := dk_80 (dk_at dksX0_deliver_0 8 rfl rfl)
theorem dX0_deliver_9 : decode cX0_deliver 9 = .ok (.goto 6, 3) := dk_167 0 6 (dk_at dksX0_deliver_0 9 rfl rfl)
theorem dX0_deliver_12 : decode cX0_deliver 12 = .ok (.astore_n 3, 1) := dk_78 (dk_at dksX0_deliver_0 12 rfl rfl)
theorem dX0_deliver_13 : decode cX0_deliver 13 = .ok (.iconst 1, 1) := dk_4 (dk_at dksX0_deliver_0 13 rfl rfl)
theorem dX0_deliver_14 : decode cX0_deliver 14 = .ok (.ireturn, 1) := dk_172 (dk_at dksX0_deliver_0 14 rfl rfl)
theorem dX0_deliver_15 : decode cX0_deliver 15 = .ok (.iconst 0, 1) := dk_3 (dk_at dksX0_deliver_0 15 rfl rfl)
theorem dX0_deliver_16 : decode cX0_deliver 16 = .ok (.ireturn, 1) := dk_172 (dk_at dksX0_deliver_0 16 rfl rfl)
abbrev cX0_lose : ByteArray := method_23_code
def yX0_lose : MethodName := ⟨RX0, "lose", "(LQuorumAlmanac;I[J)I"⟩
def dkwX0_lose_0 : List UInt8 := [44, 3, 42, 27, 182, 0, 80, 133, 80, 167, 0, 6, 78, 4, 172, 3, 172]
abbrev dktX0_lose_0 : List UInt8 := dkwX0_lose_0 ++ []
theorem dksX0_lose_0 : cX0_lose.data.toList.drop 0 = dktX0_lose_0 := by decide +kernel
theorem dX0_lose_0 : decode cX0_lose 0 = .ok (.aload_n 2, 1) := dk_44 (dk_at dksX0_lose_0 0 rfl rfl)
theorem dX0_lose_1 : decode cX0_lose 1 = .ok (.iconst 0, 1) := dk_3 (dk_at dksX0_lose_0 1 rfl rfl)
theorem dX0_lose_2 : decode cX0_lose 2 = .ok (.aload_n 0, 1) := dk_42 (dk_at dksX0_lose_0 2 rfl rfl)
theorem dX0_lose_3 : decode cX0_lose 3 = .ok (.iload_n 1, 1) := dk_27 (dk_at dksX0_lose_0 3 rfl rfl)
theorem dX0_lose_4 : decode cX0_lose 4 = .ok (.invokevirtual 80, 3) := dk_182 0 80 (dk_at dksX0_lose_0 4 rfl rfl)
theorem dX0_lose_7 : decode cX0_lose 7 = .ok (.i2l, 1) := dk_133 (dk_at dksX0_lose_0 7 rfl rfl)
theorem dX0_lose_8 : decode cX0_lose 8 = .ok (.lastore, 1) := dk_80 (dk_at dksX0_lose_0 8 rfl rfl)
theorem dX0_lose_9 : decode cX0_lose 9 = .ok (.goto 6, 3) := dk_167 0 6 (dk_at dksX0_lose_0 9 rfl rfl)
theorem dX0_lose_12 : decode cX0_lose 12 = .ok (.astore_n 3, 1) := dk_78 (dk_at dksX0_lose_0 12 rfl rfl)
theorem dX0_lose_13 : decode cX0_lose 13 = .ok (.iconst 1, 1) := dk_4 (dk_at dksX0_lose_0 13 rfl rfl)
theorem dX0_lose_14 : decode cX0_lose 14 = .ok (.ireturn, 1) := dk_172 (dk_at dksX0_lose_0 14 rfl rfl)
theorem dX0_lose_15 : decode cX0_lose 15 = .ok (.iconst 0, 1) := dk_3 (dk_at dksX0_lose_0 15 rfl rfl)
theorem dX0_lose_16 : decode cX0_lose 16 = .ok (.ireturn, 1) := dk_172 (dk_at dksX0_lose_0 16 rfl rfl)
abbrev cX0_copy : ByteArray := method_24_code
def yX0_copy : MethodName := ⟨RX0, "copy", "(LQuorumAlmanac;I[J)I"⟩
def dkwX0_copy_0 : List UInt8 := [44, 3, 42, 27, 182, 0, 83, 133, 80, 167, 0, 6, 78, 4, 172, 3, 172]
abbrev dktX0_copy_0 : List UInt8 := dkwX0_copy_0 ++ []
theorem dksX0_copy_0 : cX0_copy.data.toList.drop 0 = dktX0_copy_0 := by decide +kernel
theorem dX0_copy_0 : decode cX0_copy 0 = .ok (.aload_n 2, 1) := dk_44 (dk_at dksX0_copy_0 0 rfl rfl)
theorem dX0_copy_1 : decode cX0_copy 1 = .ok (.iconst 0, 1) := dk_3 (dk_at dksX0_copy_0 1 rfl rfl)
theorem dX0_copy_2 : decode cX0_copy 2 = .ok (.aload_n 0, 1) := dk_42 (dk_at dksX0_copy_0 2 rfl rfl)
theorem dX0_copy_3 : decode cX0_copy 3 = .ok (.iload_n 1, 1) := dk_27 (dk_at dksX0_copy_0 3 rfl rfl)
theorem dX0_copy_4 : decode cX0_copy 4 = .ok (.invokevirtual 83, 3) := dk_182 0 83 (dk_at dksX0_copy_0 4 rfl rfl)
theorem dX0_copy_7 : decode cX0_copy 7 = .ok (.i2l, 1) := dk_133 (dk_at dksX0_copy_0 7 rfl rfl)
theorem dX0_copy_8 : decode cX0_copy 8 = .ok (.lastore, 1) := dk_80 (dk_at dksX0_copy_0 8 rfl rfl)
theorem dX0_copy_9 : decode cX0_copy 9 = .ok (.goto 6, 3) := dk_167 0 6 (dk_at dksX0_copy_0 9 rfl rfl)
theorem dX0_copy_12 : decode cX0_copy 12 = .ok (.astore_n 3, 1) := dk_78 (dk_at dksX0_copy_0 12 rfl rfl)
theorem dX0_copy_13 : decode cX0_copy 13 = .ok (.iconst 1, 1) := dk_4 (dk_at dksX0_copy_0 13 rfl rfl)
theorem dX0_copy_14 : decode cX0_copy 14 = .ok (.ireturn, 1) := dk_172 (dk_at dksX0_copy_0 14 rfl rfl)
theorem dX0_copy_15 : decode cX0_copy 15 = .ok (.iconst 0, 1) := dk_3 (dk_at dksX0_copy_0 15 rfl rfl)
theorem dX0_copy_16 : decode cX0_copy 16 = .ok (.ireturn, 1) := dk_172 (dk_at dksX0_copy_0 16 rfl rfl)
abbrev cX0_write : ByteArray := method_25_code
def yX0_write : MethodName := ⟨RX0, "write", "(LQuorumAlmanac;III[J)I"⟩
def dkwX0_write_1 : List UInt8 := [58, 5, 6, 172, 3, 172]
abbrev dktX0_write_1 : List UInt8 := dkwX0_write_1 ++ []
def dkwX0_write_0 : List UInt8 := [25, 4, 3, 42, 27, 28, 29, 182, 0, 86, 133, 80, 167, 0, 15, 58, 5, 4, 172, 58, 5, 5, 172]
abbrev dktX0_write_0 : List UInt8 := dkwX0_write_0 ++ dktX0_write_1
theorem dksX0_write_0 : cX0_write.data.toList.drop 0 = dktX0_write_0 := by decide +kernel
theorem dksX0_write_1 : cX0_write.data.toList.drop 23 = dktX0_write_1 := dk_seg dksX0_write_0 23 rfl rfl
theorem dX0_write_0 : decode cX0_write 0 = .ok (.aload 4, 2) := dk_25 4 (dk_at dksX0_write_0 0 rfl rfl)
theorem dX0_write_2 : decode cX0_write 2 = .ok (.iconst 0, 1) := dk_3 (dk_at dksX0_write_0 2 rfl rfl)
theorem dX0_write_3 : decode cX0_write 3 = .ok (.aload_n 0, 1) := dk_42 (dk_at dksX0_write_0 3 rfl rfl)
theorem dX0_write_4 : decode cX0_write 4 = .ok (.iload_n 1, 1) := dk_27 (dk_at dksX0_write_0 4 rfl rfl)
theorem dX0_write_5 : decode cX0_write 5 = .ok (.iload_n 2, 1) := dk_28 (dk_at dksX0_write_0 5 rfl rfl)
theorem dX0_write_6 : decode cX0_write 6 = .ok (.iload_n 3, 1) := dk_29 (dk_at dksX0_write_0 6 rfl rfl)
theorem dX0_write_7 : decode cX0_write 7 = .ok (.invokevirtual 86, 3) := dk_182 0 86 (dk_at dksX0_write_0 7 rfl rfl)
theorem dX0_write_10 : decode cX0_write 10 = .ok (.i2l, 1) := dk_133 (dk_at dksX0_write_0 10 rfl rfl)
theorem dX0_write_11 : decode cX0_write 11 = .ok (.lastore, 1) := dk_80 (dk_at dksX0_write_0 11 rfl rfl)
theorem dX0_write_12 : decode cX0_write 12 = .ok (.goto 15, 3) := dk_167 0 15 (dk_at dksX0_write_0 12 rfl rfl)
theorem dX0_write_15 : decode cX0_write 15 = .ok (.astore 5, 2) := dk_58 5 (dk_at dksX0_write_0 15 rfl rfl)
theorem dX0_write_17 : decode cX0_write 17 = .ok (.iconst 1, 1) := dk_4 (dk_at dksX0_write_0 17 rfl rfl)
theorem dX0_write_18 : decode cX0_write 18 = .ok (.ireturn, 1) := dk_172 (dk_at dksX0_write_0 18 rfl rfl)
theorem dX0_write_19 : decode cX0_write 19 = .ok (.astore 5, 2) := dk_58 5 (dk_at dksX0_write_0 19 rfl rfl)
theorem dX0_write_21 : decode cX0_write 21 = .ok (.iconst 2, 1) := dk_5 (dk_at dksX0_write_0 21 rfl rfl)
theorem dX0_write_22 : decode cX0_write 22 = .ok (.ireturn, 1) := dk_172 (dk_at dksX0_write_0 22 rfl rfl)
theorem dX0_write_23 : decode cX0_write 23 = .ok (.astore 5, 2) := dk_58 5 (dk_at dksX0_write_1 0 rfl rfl)
theorem dX0_write_25 : decode cX0_write 25 = .ok (.iconst 3, 1) := dk_6 (dk_at dksX0_write_1 2 rfl rfl)
theorem dX0_write_26 : decode cX0_write 26 = .ok (.ireturn, 1) := dk_172 (dk_at dksX0_write_1 3 rfl rfl)
theorem dX0_write_27 : decode cX0_write 27 = .ok (.iconst 0, 1) := dk_3 (dk_at dksX0_write_1 4 rfl rfl)
theorem dX0_write_28 : decode cX0_write 28 = .ok (.ireturn, 1) := dk_172 (dk_at dksX0_write_1 5 rfl rfl)
abbrev cX0_reshape : ByteArray := method_26_code
def yX0_reshape : MethodName := ⟨RX0, "reshape", "(LQuorumAlmanac;IIZ[J)I"⟩
def dkwX0_reshape_1 : List UInt8 := [58, 5, 6, 172, 3, 172]
abbrev dktX0_reshape_1 : List UInt8 := dkwX0_reshape_1 ++ []
def dkwX0_reshape_0 : List UInt8 := [25, 4, 3, 42, 27, 28, 29, 182, 0, 92, 133, 80, 167, 0, 15, 58, 5, 4, 172, 58, 5, 5, 172]
abbrev dktX0_reshape_0 : List UInt8 := dkwX0_reshape_0 ++ dktX0_reshape_1
theorem dksX0_reshape_0 : cX0_reshape.data.toList.drop 0 = dktX0_reshape_0 := by decide +kernel
theorem dksX0_reshape_1 : cX0_reshape.data.toList.drop 23 = dktX0_reshape_1 := dk_seg dksX0_reshape_0 23 rfl rfl
theorem dX0_reshape_0 : decode cX0_reshape 0 = .ok (.aload 4, 2) := dk_25 4 (dk_at dksX0_reshape_0 0 rfl rfl)
theorem dX0_reshape_2 : decode cX0_reshape 2 = .ok (.iconst 0, 1) := dk_3 (dk_at dksX0_reshape_0 2 rfl rfl)
theorem dX0_reshape_3 : decode cX0_reshape 3 = .ok (.aload_n 0, 1) := dk_42 (dk_at dksX0_reshape_0 3 rfl rfl)
theorem dX0_reshape_4 : decode cX0_reshape 4 = .ok (.iload_n 1, 1) := dk_27 (dk_at dksX0_reshape_0 4 rfl rfl)
theorem dX0_reshape_5 : decode cX0_reshape 5 = .ok (.iload_n 2, 1) := dk_28 (dk_at dksX0_reshape_0 5 rfl rfl)
theorem dX0_reshape_6 : decode cX0_reshape 6 = .ok (.iload_n 3, 1) := dk_29 (dk_at dksX0_reshape_0 6 rfl rfl)
theorem dX0_reshape_7 : decode cX0_reshape 7 = .ok (.invokevirtual 92, 3) := dk_182 0 92 (dk_at dksX0_reshape_0 7 rfl rfl)
theorem dX0_reshape_10 : decode cX0_reshape 10 = .ok (.i2l, 1) := dk_133 (dk_at dksX0_reshape_0 10 rfl rfl)
theorem dX0_reshape_11 : decode cX0_reshape 11 = .ok (.lastore, 1) := dk_80 (dk_at dksX0_reshape_0 11 rfl rfl)
theorem dX0_reshape_12 : decode cX0_reshape 12 = .ok (.goto 15, 3) := dk_167 0 15 (dk_at dksX0_reshape_0 12 rfl rfl)
theorem dX0_reshape_15 : decode cX0_reshape 15 = .ok (.astore 5, 2) := dk_58 5 (dk_at dksX0_reshape_0 15 rfl rfl)
theorem dX0_reshape_17 : decode cX0_reshape 17 = .ok (.iconst 1, 1) := dk_4 (dk_at dksX0_reshape_0 17 rfl rfl)
theorem dX0_reshape_18 : decode cX0_reshape 18 = .ok (.ireturn, 1) := dk_172 (dk_at dksX0_reshape_0 18 rfl rfl)
theorem dX0_reshape_19 : decode cX0_reshape 19 = .ok (.astore 5, 2) := dk_58 5 (dk_at dksX0_reshape_0 19 rfl rfl)
theorem dX0_reshape_21 : decode cX0_reshape 21 = .ok (.iconst 2, 1) := dk_5 (dk_at dksX0_reshape_0 21 rfl rfl)
theorem dX0_reshape_22 : decode cX0_reshape 22 = .ok (.ireturn, 1) := dk_172 (dk_at dksX0_reshape_0 22 rfl rfl)
theorem dX0_reshape_23 : decode cX0_reshape 23 = .ok (.astore 5, 2) := dk_58 5 (dk_at dksX0_reshape_1 0 rfl rfl)
theorem dX0_reshape_25 : decode cX0_reshape 25 = .ok (.iconst 3, 1) := dk_6 (dk_at dksX0_reshape_1 2 rfl rfl)
theorem dX0_reshape_26 : decode cX0_reshape 26 = .ok (.ireturn, 1) := dk_172 (dk_at dksX0_reshape_1 3 rfl rfl)
theorem dX0_reshape_27 : decode cX0_reshape 27 = .ok (.iconst 0, 1) := dk_3 (dk_at dksX0_reshape_1 4 rfl rfl)
theorem dX0_reshape_28 : decode cX0_reshape 28 = .ok (.ireturn, 1) := dk_172 (dk_at dksX0_reshape_1 5 rfl rfl)
abbrev cX0_change : ByteArray := method_27_code
def yX0_change : MethodName := ⟨RX0, "change", "(LQuorumAlmanac;II[J)I"⟩
def dkwX0_change_1 : List UInt8 := [172, 58, 4, 7, 172, 3, 172]
abbrev dktX0_change_1 : List UInt8 := dkwX0_change_1 ++ []
def dkwX0_change_0 : List UInt8 := [45, 3, 42, 27, 28, 182, 0, 96, 133, 80, 167, 0, 19, 58, 4, 4, 172, 58, 4, 5, 172, 58, 4, 6]
abbrev dktX0_change_0 : List UInt8 := dkwX0_change_0 ++ dktX0_change_1
theorem dksX0_change_0 : cX0_change.data.toList.drop 0 = dktX0_change_0 := by decide +kernel
theorem dksX0_change_1 : cX0_change.data.toList.drop 24 = dktX0_change_1 := dk_seg dksX0_change_0 24 rfl rfl
theorem dX0_change_0 : decode cX0_change 0 = .ok (.aload_n 3, 1) := dk_45 (dk_at dksX0_change_0 0 rfl rfl)
theorem dX0_change_1 : decode cX0_change 1 = .ok (.iconst 0, 1) := dk_3 (dk_at dksX0_change_0 1 rfl rfl)
theorem dX0_change_2 : decode cX0_change 2 = .ok (.aload_n 0, 1) := dk_42 (dk_at dksX0_change_0 2 rfl rfl)
theorem dX0_change_3 : decode cX0_change 3 = .ok (.iload_n 1, 1) := dk_27 (dk_at dksX0_change_0 3 rfl rfl)
theorem dX0_change_4 : decode cX0_change 4 = .ok (.iload_n 2, 1) := dk_28 (dk_at dksX0_change_0 4 rfl rfl)
theorem dX0_change_5 : decode cX0_change 5 = .ok (.invokevirtual 96, 3) := dk_182 0 96 (dk_at dksX0_change_0 5 rfl rfl)
theorem dX0_change_8 : decode cX0_change 8 = .ok (.i2l, 1) := dk_133 (dk_at dksX0_change_0 8 rfl rfl)
theorem dX0_change_9 : decode cX0_change 9 = .ok (.lastore, 1) := dk_80 (dk_at dksX0_change_0 9 rfl rfl)
theorem dX0_change_10 : decode cX0_change 10 = .ok (.goto 19, 3) := dk_167 0 19 (dk_at dksX0_change_0 10 rfl rfl)
theorem dX0_change_13 : decode cX0_change 13 = .ok (.astore 4, 2) := dk_58 4 (dk_at dksX0_change_0 13 rfl rfl)
theorem dX0_change_15 : decode cX0_change 15 = .ok (.iconst 1, 1) := dk_4 (dk_at dksX0_change_0 15 rfl rfl)
theorem dX0_change_16 : decode cX0_change 16 = .ok (.ireturn, 1) := dk_172 (dk_at dksX0_change_0 16 rfl rfl)
theorem dX0_change_17 : decode cX0_change 17 = .ok (.astore 4, 2) := dk_58 4 (dk_at dksX0_change_0 17 rfl rfl)
theorem dX0_change_19 : decode cX0_change 19 = .ok (.iconst 2, 1) := dk_5 (dk_at dksX0_change_0 19 rfl rfl)
theorem dX0_change_20 : decode cX0_change 20 = .ok (.ireturn, 1) := dk_172 (dk_at dksX0_change_0 20 rfl rfl)
theorem dX0_change_21 : decode cX0_change 21 = .ok (.astore 4, 2) := dk_58 4 (dk_at dksX0_change_0 21 rfl rfl)
theorem dX0_change_23 : decode cX0_change 23 = .ok (.iconst 3, 1) := dk_6 (dk_at dksX0_change_0 23 rfl rfl)
theorem dX0_change_24 : decode cX0_change 24 = .ok (.ireturn, 1) := dk_172 (dk_at dksX0_change_1 0 rfl rfl)
theorem dX0_change_25 : decode cX0_change 25 = .ok (.astore 4, 2) := dk_58 4 (dk_at dksX0_change_1 1 rfl rfl)
theorem dX0_change_27 : decode cX0_change 27 = .ok (.iconst 4, 1) := dk_7 (dk_at dksX0_change_1 3 rfl rfl)
theorem dX0_change_28 : decode cX0_change 28 = .ok (.ireturn, 1) := dk_172 (dk_at dksX0_change_1 4 rfl rfl)
theorem dX0_change_29 : decode cX0_change 29 = .ok (.iconst 0, 1) := dk_3 (dk_at dksX0_change_1 5 rfl rfl)
theorem dX0_change_30 : decode cX0_change 30 = .ok (.ireturn, 1) := dk_172 (dk_at dksX0_change_1 6 rfl rfl)
abbrev cX0_hasLease : ByteArray := method_28_code
def yX0_hasLease : MethodName := ⟨RX0, "hasLease", "(LQuorumAlmanac;I[J)I"⟩
def dkwX0_hasLease_0 : List UInt8 := [44, 3, 42, 27, 182, 0, 101, 153, 0, 7, 10, 167, 0, 4, 9, 80, 167, 0, 6, 78, 4, 172, 3, 172]
abbrev dktX0_hasLease_0 : List UInt8 := dkwX0_hasLease_0 ++ []
theorem dksX0_hasLease_0 : cX0_hasLease.data.toList.drop 0 = dktX0_hasLease_0 := by decide +kernel
theorem dX0_hasLease_0 : decode cX0_hasLease 0 = .ok (.aload_n 2, 1) := dk_44 (dk_at dksX0_hasLease_0 0 rfl rfl)
theorem dX0_hasLease_1 : decode cX0_hasLease 1 = .ok (.iconst 0, 1) := dk_3 (dk_at dksX0_hasLease_0 1 rfl rfl)
theorem dX0_hasLease_2 : decode cX0_hasLease 2 = .ok (.aload_n 0, 1) := dk_42 (dk_at dksX0_hasLease_0 2 rfl rfl)
theorem dX0_hasLease_3 : decode cX0_hasLease 3 = .ok (.iload_n 1, 1) := dk_27 (dk_at dksX0_hasLease_0 3 rfl rfl)
theorem dX0_hasLease_4 : decode cX0_hasLease 4 = .ok (.invokevirtual 101, 3) := dk_182 0 101 (dk_at dksX0_hasLease_0 4 rfl rfl)
theorem dX0_hasLease_7 : decode cX0_hasLease 7 = .ok (.ifCond .eq 7, 3) := dk_153 0 7 (dk_at dksX0_hasLease_0 7 rfl rfl)
theorem dX0_hasLease_10 : decode cX0_hasLease 10 = .ok (.lconst 1, 1) := dk_10 (dk_at dksX0_hasLease_0 10 rfl rfl)
theorem dX0_hasLease_11 : decode cX0_hasLease 11 = .ok (.goto 4, 3) := dk_167 0 4 (dk_at dksX0_hasLease_0 11 rfl rfl)
theorem dX0_hasLease_14 : decode cX0_hasLease 14 = .ok (.lconst 0, 1) := dk_9 (dk_at dksX0_hasLease_0 14 rfl rfl)
theorem dX0_hasLease_15 : decode cX0_hasLease 15 = .ok (.lastore, 1) := dk_80 (dk_at dksX0_hasLease_0 15 rfl rfl)
theorem dX0_hasLease_16 : decode cX0_hasLease 16 = .ok (.goto 6, 3) := dk_167 0 6 (dk_at dksX0_hasLease_0 16 rfl rfl)
theorem dX0_hasLease_19 : decode cX0_hasLease 19 = .ok (.astore_n 3, 1) := dk_78 (dk_at dksX0_hasLease_0 19 rfl rfl)
theorem dX0_hasLease_20 : decode cX0_hasLease 20 = .ok (.iconst 1, 1) := dk_4 (dk_at dksX0_hasLease_0 20 rfl rfl)
theorem dX0_hasLease_21 : decode cX0_hasLease 21 = .ok (.ireturn, 1) := dk_172 (dk_at dksX0_hasLease_0 21 rfl rfl)
theorem dX0_hasLease_22 : decode cX0_hasLease 22 = .ok (.iconst 0, 1) := dk_3 (dk_at dksX0_hasLease_0 22 rfl rfl)
theorem dX0_hasLease_23 : decode cX0_hasLease 23 = .ok (.ireturn, 1) := dk_172 (dk_at dksX0_hasLease_0 23 rfl rfl)
abbrev cX0_readByLease : ByteArray := method_29_code
def yX0_readByLease : MethodName := ⟨RX0, "readByLease", "(LQuorumAlmanac;II[J)I"⟩
def dkwX0_readByLease_1 : List UInt8 := [172, 3, 172]
abbrev dktX0_readByLease_1 : List UInt8 := dkwX0_readByLease_1 ++ []
def dkwX0_readByLease_0 : List UInt8 := [45, 3, 42, 27, 28, 182, 0, 105, 133, 80, 167, 0, 15, 58, 4, 4, 172, 58, 4, 5, 172, 58, 4, 6]
abbrev dktX0_readByLease_0 : List UInt8 := dkwX0_readByLease_0 ++ dktX0_readByLease_1
theorem dksX0_readByLease_0 : cX0_readByLease.data.toList.drop 0 = dktX0_readByLease_0 := by decide +kernel
theorem dksX0_readByLease_1 : cX0_readByLease.data.toList.drop 24 = dktX0_readByLease_1 := dk_seg dksX0_readByLease_0 24 rfl rfl
theorem dX0_readByLease_0 : decode cX0_readByLease 0 = .ok (.aload_n 3, 1) := dk_45 (dk_at dksX0_readByLease_0 0 rfl rfl)
theorem dX0_readByLease_1 : decode cX0_readByLease 1 = .ok (.iconst 0, 1) := dk_3 (dk_at dksX0_readByLease_0 1 rfl rfl)
theorem dX0_readByLease_2 : decode cX0_readByLease 2 = .ok (.aload_n 0, 1) := dk_42 (dk_at dksX0_readByLease_0 2 rfl rfl)
theorem dX0_readByLease_3 : decode cX0_readByLease 3 = .ok (.iload_n 1, 1) := dk_27 (dk_at dksX0_readByLease_0 3 rfl rfl)
theorem dX0_readByLease_4 : decode cX0_readByLease 4 = .ok (.iload_n 2, 1) := dk_28 (dk_at dksX0_readByLease_0 4 rfl rfl)
theorem dX0_readByLease_5 : decode cX0_readByLease 5 = .ok (.invokevirtual 105, 3) := dk_182 0 105 (dk_at dksX0_readByLease_0 5 rfl rfl)
theorem dX0_readByLease_8 : decode cX0_readByLease 8 = .ok (.i2l, 1) := dk_133 (dk_at dksX0_readByLease_0 8 rfl rfl)
theorem dX0_readByLease_9 : decode cX0_readByLease 9 = .ok (.lastore, 1) := dk_80 (dk_at dksX0_readByLease_0 9 rfl rfl)
theorem dX0_readByLease_10 : decode cX0_readByLease 10 = .ok (.goto 15, 3) := dk_167 0 15 (dk_at dksX0_readByLease_0 10 rfl rfl)
theorem dX0_readByLease_13 : decode cX0_readByLease 13 = .ok (.astore 4, 2) := dk_58 4 (dk_at dksX0_readByLease_0 13 rfl rfl)
theorem dX0_readByLease_15 : decode cX0_readByLease 15 = .ok (.iconst 1, 1) := dk_4 (dk_at dksX0_readByLease_0 15 rfl rfl)
theorem dX0_readByLease_16 : decode cX0_readByLease 16 = .ok (.ireturn, 1) := dk_172 (dk_at dksX0_readByLease_0 16 rfl rfl)
theorem dX0_readByLease_17 : decode cX0_readByLease 17 = .ok (.astore 4, 2) := dk_58 4 (dk_at dksX0_readByLease_0 17 rfl rfl)
theorem dX0_readByLease_19 : decode cX0_readByLease 19 = .ok (.iconst 2, 1) := dk_5 (dk_at dksX0_readByLease_0 19 rfl rfl)
theorem dX0_readByLease_20 : decode cX0_readByLease 20 = .ok (.ireturn, 1) := dk_172 (dk_at dksX0_readByLease_0 20 rfl rfl)
theorem dX0_readByLease_21 : decode cX0_readByLease 21 = .ok (.astore 4, 2) := dk_58 4 (dk_at dksX0_readByLease_0 21 rfl rfl)
theorem dX0_readByLease_23 : decode cX0_readByLease 23 = .ok (.iconst 3, 1) := dk_6 (dk_at dksX0_readByLease_0 23 rfl rfl)
theorem dX0_readByLease_24 : decode cX0_readByLease 24 = .ok (.ireturn, 1) := dk_172 (dk_at dksX0_readByLease_1 0 rfl rfl)
theorem dX0_readByLease_25 : decode cX0_readByLease 25 = .ok (.iconst 0, 1) := dk_3 (dk_at dksX0_readByLease_1 1 rfl rfl)
theorem dX0_readByLease_26 : decode cX0_readByLease 26 = .ok (.ireturn, 1) := dk_172 (dk_at dksX0_readByLease_1 2 rfl rfl)
abbrev cX0_askRead : ByteArray := method_30_code
def yX0_askRead : MethodName := ⟨RX0, "askRead", "(LQuorumAlmanac;II[J)I"⟩
def dkwX0_askRead_1 : List UInt8 := [172, 3, 172]
abbrev dktX0_askRead_1 : List UInt8 := dkwX0_askRead_1 ++ []
def dkwX0_askRead_0 : List UInt8 := [45, 3, 42, 27, 28, 182, 0, 108, 133, 80, 167, 0, 15, 58, 4, 4, 172, 58, 4, 5, 172, 58, 4, 6]
abbrev dktX0_askRead_0 : List UInt8 := dkwX0_askRead_0 ++ dktX0_askRead_1
theorem dksX0_askRead_0 : cX0_askRead.data.toList.drop 0 = dktX0_askRead_0 := by decide +kernel
theorem dksX0_askRead_1 : cX0_askRead.data.toList.drop 24 = dktX0_askRead_1 := dk_seg dksX0_askRead_0 24 rfl rfl
theorem dX0_askRead_0 : decode cX0_askRead 0 = .ok (.aload_n 3, 1) := dk_45 (dk_at dksX0_askRead_0 0 rfl rfl)
theorem dX0_askRead_1 : decode cX0_askRead 1 = .ok (.iconst 0, 1) := dk_3 (dk_at dksX0_askRead_0 1 rfl rfl)
theorem dX0_askRead_2 : decode cX0_askRead 2 = .ok (.aload_n 0, 1) := dk_42 (dk_at dksX0_askRead_0 2 rfl rfl)
theorem dX0_askRead_3 : decode cX0_askRead 3 = .ok (.iload_n 1, 1) := dk_27 (dk_at dksX0_askRead_0 3 rfl rfl)
theorem dX0_askRead_4 : decode cX0_askRead 4 = .ok (.iload_n 2, 1) := dk_28 (dk_at dksX0_askRead_0 4 rfl rfl)
theorem dX0_askRead_5 : decode cX0_askRead 5 = .ok (.invokevirtual 108, 3) := dk_182 0 108 (dk_at dksX0_askRead_0 5 rfl rfl)
theorem dX0_askRead_8 : decode cX0_askRead 8 = .ok (.i2l, 1) := dk_133 (dk_at dksX0_askRead_0 8 rfl rfl)
theorem dX0_askRead_9 : decode cX0_askRead 9 = .ok (.lastore, 1) := dk_80 (dk_at dksX0_askRead_0 9 rfl rfl)
theorem dX0_askRead_10 : decode cX0_askRead 10 = .ok (.goto 15, 3) := dk_167 0 15 (dk_at dksX0_askRead_0 10 rfl rfl)
theorem dX0_askRead_13 : decode cX0_askRead 13 = .ok (.astore 4, 2) := dk_58 4 (dk_at dksX0_askRead_0 13 rfl rfl)
theorem dX0_askRead_15 : decode cX0_askRead 15 = .ok (.iconst 1, 1) := dk_4 (dk_at dksX0_askRead_0 15 rfl rfl)
theorem dX0_askRead_16 : decode cX0_askRead 16 = .ok (.ireturn, 1) := dk_172 (dk_at dksX0_askRead_0 16 rfl rfl)
theorem dX0_askRead_17 : decode cX0_askRead 17 = .ok (.astore 4, 2) := dk_58 4 (dk_at dksX0_askRead_0 17 rfl rfl)
theorem dX0_askRead_19 : decode cX0_askRead 19 = .ok (.iconst 2, 1) := dk_5 (dk_at dksX0_askRead_0 19 rfl rfl)
theorem dX0_askRead_20 : decode cX0_askRead 20 = .ok (.ireturn, 1) := dk_172 (dk_at dksX0_askRead_0 20 rfl rfl)
theorem dX0_askRead_21 : decode cX0_askRead 21 = .ok (.astore 4, 2) := dk_58 4 (dk_at dksX0_askRead_0 21 rfl rfl)
theorem dX0_askRead_23 : decode cX0_askRead 23 = .ok (.iconst 3, 1) := dk_6 (dk_at dksX0_askRead_0 23 rfl rfl)
theorem dX0_askRead_24 : decode cX0_askRead 24 = .ok (.ireturn, 1) := dk_172 (dk_at dksX0_askRead_1 0 rfl rfl)
theorem dX0_askRead_25 : decode cX0_askRead 25 = .ok (.iconst 0, 1) := dk_3 (dk_at dksX0_askRead_1 1 rfl rfl)
theorem dX0_askRead_26 : decode cX0_askRead 26 = .ok (.ireturn, 1) := dk_172 (dk_at dksX0_askRead_1 2 rfl rfl)
abbrev cX0_readState : ByteArray := method_31_code
def yX0_readState : MethodName := ⟨RX0, "readState", "(LQuorumAlmanac;I[J)I"⟩
def dkwX0_readState_0 : List UInt8 := [44, 3, 42, 27, 182, 0, 111, 133, 80, 167, 0, 6, 78, 4, 172, 3, 172]
abbrev dktX0_readState_0 : List UInt8 := dkwX0_readState_0 ++ []
theorem dksX0_readState_0 : cX0_readState.data.toList.drop 0 = dktX0_readState_0 := by decide +kernel
theorem dX0_readState_0 : decode cX0_readState 0 = .ok (.aload_n 2, 1) := dk_44 (dk_at dksX0_readState_0 0 rfl rfl)
theorem dX0_readState_1 : decode cX0_readState 1 = .ok (.iconst 0, 1) := dk_3 (dk_at dksX0_readState_0 1 rfl rfl)
theorem dX0_readState_2 : decode cX0_readState 2 = .ok (.aload_n 0, 1) := dk_42 (dk_at dksX0_readState_0 2 rfl rfl)
theorem dX0_readState_3 : decode cX0_readState 3 = .ok (.iload_n 1, 1) := dk_27 (dk_at dksX0_readState_0 3 rfl rfl)
theorem dX0_readState_4 : decode cX0_readState 4 = .ok (.invokevirtual 111, 3) := dk_182 0 111 (dk_at dksX0_readState_0 4 rfl rfl)
theorem dX0_readState_7 : decode cX0_readState 7 = .ok (.i2l, 1) := dk_133 (dk_at dksX0_readState_0 7 rfl rfl)
theorem dX0_readState_8 : decode cX0_readState 8 = .ok (.lastore, 1) := dk_80 (dk_at dksX0_readState_0 8 rfl rfl)
theorem dX0_readState_9 : decode cX0_readState 9 = .ok (.goto 6, 3) := dk_167 0 6 (dk_at dksX0_readState_0 9 rfl rfl)
theorem dX0_readState_12 : decode cX0_readState 12 = .ok (.astore_n 3, 1) := dk_78 (dk_at dksX0_readState_0 12 rfl rfl)
theorem dX0_readState_13 : decode cX0_readState 13 = .ok (.iconst 1, 1) := dk_4 (dk_at dksX0_readState_0 13 rfl rfl)
theorem dX0_readState_14 : decode cX0_readState 14 = .ok (.ireturn, 1) := dk_172 (dk_at dksX0_readState_0 14 rfl rfl)
theorem dX0_readState_15 : decode cX0_readState 15 = .ok (.iconst 0, 1) := dk_3 (dk_at dksX0_readState_0 15 rfl rfl)
theorem dX0_readState_16 : decode cX0_readState 16 = .ok (.ireturn, 1) := dk_172 (dk_at dksX0_readState_0 16 rfl rfl)
abbrev cX0_readValue : ByteArray := method_32_code
def yX0_readValue : MethodName := ⟨RX0, "readValue", "(LQuorumAlmanac;I[J)I"⟩
def dkwX0_readValue_0 : List UInt8 := [44, 3, 42, 27, 182, 0, 114, 133, 80, 167, 0, 6, 78, 4, 172, 3, 172]
abbrev dktX0_readValue_0 : List UInt8 := dkwX0_readValue_0 ++ []
theorem dksX0_readValue_0 : cX0_readValue.data.toList.drop 0 = dktX0_readValue_0 := by decide +kernel
theorem dX0_readValue_0 : decode cX0_readValue 0 = .ok (.aload_n 2, 1) := dk_44 (dk_at dksX0_readValue_0 0 rfl rfl)
theorem dX0_readValue_1 : decode cX0_readValue 1 = .ok (.iconst 0, 1) := dk_3 (dk_at dksX0_readValue_0 1 rfl rfl)
theorem dX0_readValue_2 : decode cX0_readValue 2 = .ok (.aload_n 0, 1) := dk_42 (dk_at dksX0_readValue_0 2 rfl rfl)
theorem dX0_readValue_3 : decode cX0_readValue 3 = .ok (.iload_n 1, 1) := dk_27 (dk_at dksX0_readValue_0 3 rfl rfl)
theorem dX0_readValue_4 : decode cX0_readValue 4 = .ok (.invokevirtual 114, 3) := dk_182 0 114 (dk_at dksX0_readValue_0 4 rfl rfl)
theorem dX0_readValue_7 : decode cX0_readValue 7 = .ok (.i2l, 1) := dk_133 (dk_at dksX0_readValue_0 7 rfl rfl)
theorem dX0_readValue_8 : decode cX0_readValue 8 = .ok (.lastore, 1) := dk_80 (dk_at dksX0_readValue_0 8 rfl rfl)
theorem dX0_readValue_9 : decode cX0_readValue 9 = .ok (.goto 6, 3) := dk_167 0 6 (dk_at dksX0_readValue_0 9 rfl rfl)
theorem dX0_readValue_12 : decode cX0_readValue 12 = .ok (.astore_n 3, 1) := dk_78 (dk_at dksX0_readValue_0 12 rfl rfl)
theorem dX0_readValue_13 : decode cX0_readValue 13 = .ok (.iconst 1, 1) := dk_4 (dk_at dksX0_readValue_0 13 rfl rfl)
theorem dX0_readValue_14 : decode cX0_readValue 14 = .ok (.ireturn, 1) := dk_172 (dk_at dksX0_readValue_0 14 rfl rfl)
theorem dX0_readValue_15 : decode cX0_readValue 15 = .ok (.iconst 0, 1) := dk_3 (dk_at dksX0_readValue_0 15 rfl rfl)
theorem dX0_readValue_16 : decode cX0_readValue 16 = .ok (.ireturn, 1) := dk_172 (dk_at dksX0_readValue_0 16 rfl rfl)
abbrev cX0_readStale : ByteArray := method_33_code
def yX0_readStale : MethodName := ⟨RX0, "readStale", "(LQuorumAlmanac;II[J)I"⟩
def dkwX0_readStale_1 : List UInt8 := [172, 3, 172]
abbrev dktX0_readStale_1 : List UInt8 := dkwX0_readStale_1 ++ []
def dkwX0_readStale_0 : List UInt8 := [45, 3, 42, 27, 28, 182, 0, 117, 133, 80, 167, 0, 15, 58, 4, 4, 172, 58, 4, 5, 172, 58, 4, 6]
abbrev dktX0_readStale_0 : List UInt8 := dkwX0_readStale_0 ++ dktX0_readStale_1
theorem dksX0_readStale_0 : cX0_readStale.data.toList.drop 0 = dktX0_readStale_0 := by decide +kernel
theorem dksX0_readStale_1 : cX0_readStale.data.toList.drop 24 = dktX0_readStale_1 := dk_seg dksX0_readStale_0 24 rfl rfl
theorem dX0_readStale_0 : decode cX0_readStale 0 = .ok (.aload_n 3, 1) := dk_45 (dk_at dksX0_readStale_0 0 rfl rfl)
theorem dX0_readStale_1 : decode cX0_readStale 1 = .ok (.iconst 0, 1) := dk_3 (dk_at dksX0_readStale_0 1 rfl rfl)
theorem dX0_readStale_2 : decode cX0_readStale 2 = .ok (.aload_n 0, 1) := dk_42 (dk_at dksX0_readStale_0 2 rfl rfl)
theorem dX0_readStale_3 : decode cX0_readStale 3 = .ok (.iload_n 1, 1) := dk_27 (dk_at dksX0_readStale_0 3 rfl rfl)
theorem dX0_readStale_4 : decode cX0_readStale 4 = .ok (.iload_n 2, 1) := dk_28 (dk_at dksX0_readStale_0 4 rfl rfl)
theorem dX0_readStale_5 : decode cX0_readStale 5 = .ok (.invokevirtual 117, 3) := dk_182 0 117 (dk_at dksX0_readStale_0 5 rfl rfl)
theorem dX0_readStale_8 : decode cX0_readStale 8 = .ok (.i2l, 1) := dk_133 (dk_at dksX0_readStale_0 8 rfl rfl)
theorem dX0_readStale_9 : decode cX0_readStale 9 = .ok (.lastore, 1) := dk_80 (dk_at dksX0_readStale_0 9 rfl rfl)
theorem dX0_readStale_10 : decode cX0_readStale 10 = .ok (.goto 15, 3) := dk_167 0 15 (dk_at dksX0_readStale_0 10 rfl rfl)
theorem dX0_readStale_13 : decode cX0_readStale 13 = .ok (.astore 4, 2) := dk_58 4 (dk_at dksX0_readStale_0 13 rfl rfl)
theorem dX0_readStale_15 : decode cX0_readStale 15 = .ok (.iconst 1, 1) := dk_4 (dk_at dksX0_readStale_0 15 rfl rfl)
theorem dX0_readStale_16 : decode cX0_readStale 16 = .ok (.ireturn, 1) := dk_172 (dk_at dksX0_readStale_0 16 rfl rfl)
theorem dX0_readStale_17 : decode cX0_readStale 17 = .ok (.astore 4, 2) := dk_58 4 (dk_at dksX0_readStale_0 17 rfl rfl)
theorem dX0_readStale_19 : decode cX0_readStale 19 = .ok (.iconst 2, 1) := dk_5 (dk_at dksX0_readStale_0 19 rfl rfl)
theorem dX0_readStale_20 : decode cX0_readStale 20 = .ok (.ireturn, 1) := dk_172 (dk_at dksX0_readStale_0 20 rfl rfl)
theorem dX0_readStale_21 : decode cX0_readStale 21 = .ok (.astore 4, 2) := dk_58 4 (dk_at dksX0_readStale_0 21 rfl rfl)
theorem dX0_readStale_23 : decode cX0_readStale 23 = .ok (.iconst 3, 1) := dk_6 (dk_at dksX0_readStale_0 23 rfl rfl)
theorem dX0_readStale_24 : decode cX0_readStale 24 = .ok (.ireturn, 1) := dk_172 (dk_at dksX0_readStale_1 0 rfl rfl)
theorem dX0_readStale_25 : decode cX0_readStale 25 = .ok (.iconst 0, 1) := dk_3 (dk_at dksX0_readStale_1 1 rfl rfl)
theorem dX0_readStale_26 : decode cX0_readStale 26 = .ok (.ireturn, 1) := dk_172 (dk_at dksX0_readStale_1 2 rfl rfl)
abbrev cX0_rangeOf : ByteArray := method_34_code
def yX0_rangeOf : MethodName := ⟨RX0, "rangeOf", "(LQuorumAlmanac;II[J)I"⟩
def dkwX0_rangeOf_1 : List UInt8 := [172, 3, 172]
abbrev dktX0_rangeOf_1 : List UInt8 := dkwX0_rangeOf_1 ++ []
def dkwX0_rangeOf_0 : List UInt8 := [45, 3, 42, 27, 28, 182, 0, 120, 133, 80, 167, 0, 15, 58, 4, 4, 172, 58, 4, 5, 172, 58, 4, 6]
abbrev dktX0_rangeOf_0 : List UInt8 := dkwX0_rangeOf_0 ++ dktX0_rangeOf_1
theorem dksX0_rangeOf_0 : cX0_rangeOf.data.toList.drop 0 = dktX0_rangeOf_0 := by decide +kernel
theorem dksX0_rangeOf_1 : cX0_rangeOf.data.toList.drop 24 = dktX0_rangeOf_1 := dk_seg dksX0_rangeOf_0 24 rfl rfl
theorem dX0_rangeOf_0 : decode cX0_rangeOf 0 = .ok (.aload_n 3, 1) := dk_45 (dk_at dksX0_rangeOf_0 0 rfl rfl)
theorem dX0_rangeOf_1 : decode cX0_rangeOf 1 = .ok (.iconst 0, 1) := dk_3 (dk_at dksX0_rangeOf_0 1 rfl rfl)
theorem dX0_rangeOf_2 : decode cX0_rangeOf 2 = .ok (.aload_n 0, 1) := dk_42 (dk_at dksX0_rangeOf_0 2 rfl rfl)
theorem dX0_rangeOf_3 : decode cX0_rangeOf 3 = .ok (.iload_n 1, 1) := dk_27 (dk_at dksX0_rangeOf_0 3 rfl rfl)
theorem dX0_rangeOf_4 : decode cX0_rangeOf 4 = .ok (.iload_n 2, 1) := dk_28 (dk_at dksX0_rangeOf_0 4 rfl rfl)
theorem dX0_rangeOf_5 : decode cX0_rangeOf 5 = .ok (.invokevirtual 120, 3) := dk_182 0 120 (dk_at dksX0_rangeOf_0 5 rfl rfl)
theorem dX0_rangeOf_8 : decode cX0_rangeOf 8 = .ok (.i2l, 1) := dk_133 (dk_at dksX0_rangeOf_0 8 rfl rfl)
theorem dX0_rangeOf_9 : decode cX0_rangeOf 9 = .ok (.lastore, 1) := dk_80 (dk_at dksX0_rangeOf_0 9 rfl rfl)
theorem dX0_rangeOf_10 : decode cX0_rangeOf 10 = .ok (.goto 15, 3) := dk_167 0 15 (dk_at dksX0_rangeOf_0 10 rfl rfl)
theorem dX0_rangeOf_13 : decode cX0_rangeOf 13 = .ok (.astore 4, 2) := dk_58 4 (dk_at dksX0_rangeOf_0 13 rfl rfl)
theorem dX0_rangeOf_15 : decode cX0_rangeOf 15 = .ok (.iconst 1, 1) := dk_4 (dk_at dksX0_rangeOf_0 15 rfl rfl)
theorem dX0_rangeOf_16 : decode cX0_rangeOf 16 = .ok (.ireturn, 1) := dk_172 (dk_at dksX0_rangeOf_0 16 rfl rfl)
theorem dX0_rangeOf_17 : decode cX0_rangeOf 17 = .ok (.astore 4, 2) := dk_58 4 (dk_at dksX0_rangeOf_0 17 rfl rfl)
theorem dX0_rangeOf_19 : decode cX0_rangeOf 19 = .ok (.iconst 2, 1) := dk_5 (dk_at dksX0_rangeOf_0 19 rfl rfl)
theorem dX0_rangeOf_20 : decode cX0_rangeOf 20 = .ok (.ireturn, 1) := dk_172 (dk_at dksX0_rangeOf_0 20 rfl rfl)
theorem dX0_rangeOf_21 : decode cX0_rangeOf 21 = .ok (.astore 4, 2) := dk_58 4 (dk_at dksX0_rangeOf_0 21 rfl rfl)
theorem dX0_rangeOf_23 : decode cX0_rangeOf 23 = .ok (.iconst 3, 1) := dk_6 (dk_at dksX0_rangeOf_0 23 rfl rfl)
theorem dX0_rangeOf_24 : decode cX0_rangeOf 24 = .ok (.ireturn, 1) := dk_172 (dk_at dksX0_rangeOf_1 0 rfl rfl)
theorem dX0_rangeOf_25 : decode cX0_rangeOf 25 = .ok (.iconst 0, 1) := dk_3 (dk_at dksX0_rangeOf_1 1 rfl rfl)
theorem dX0_rangeOf_26 : decode cX0_rangeOf 26 = .ok (.ireturn, 1) := dk_172 (dk_at dksX0_rangeOf_1 2 rfl rfl)
abbrev cX0_load : ByteArray := method_35_code
def yX0_load : MethodName := ⟨RX0, "load", "(LQuorumAlmanac;II[J)I"⟩
def dkwX0_load_1 : List UInt8 := [172, 3, 172]
abbrev dktX0_load_1 : List UInt8 := dkwX0_load_1 ++ []
def dkwX0_load_0 : List UInt8 := [45, 3, 42, 27, 28, 182, 0, 123, 133, 80, 167, 0, 15, 58, 4, 4, 172, 58, 4, 5, 172, 58, 4, 6]
abbrev dktX0_load_0 : List UInt8 := dkwX0_load_0 ++ dktX0_load_1
theorem dksX0_load_0 : cX0_load.data.toList.drop 0 = dktX0_load_0 := by decide +kernel
theorem dksX0_load_1 : cX0_load.data.toList.drop 24 = dktX0_load_1 := dk_seg dksX0_load_0 24 rfl rfl
theorem dX0_load_0 : decode cX0_load 0 = .ok (.aload_n 3, 1) := dk_45 (dk_at dksX0_load_0 0 rfl rfl)
theorem dX0_load_1 : decode cX0_load 1 = .ok (.iconst 0, 1) := dk_3 (dk_at dksX0_load_0 1 rfl rfl)
theorem dX0_load_2 : decode cX0_load 2 = .ok (.aload_n 0, 1) := dk_42 (dk_at dksX0_load_0 2 rfl rfl)
theorem dX0_load_3 : decode cX0_load 3 = .ok (.iload_n 1, 1) := dk_27 (dk_at dksX0_load_0 3 rfl rfl)
theorem dX0_load_4 : decode cX0_load 4 = .ok (.iload_n 2, 1) := dk_28 (dk_at dksX0_load_0 4 rfl rfl)
theorem dX0_load_5 : decode cX0_load 5 = .ok (.invokevirtual 123, 3) := dk_182 0 123 (dk_at dksX0_load_0 5 rfl rfl)
theorem dX0_load_8 : decode cX0_load 8 = .ok (.i2l, 1) := dk_133 (dk_at dksX0_load_0 8 rfl rfl)
theorem dX0_load_9 : decode cX0_load 9 = .ok (.lastore, 1) := dk_80 (dk_at dksX0_load_0 9 rfl rfl)
theorem dX0_load_10 : decode cX0_load 10 = .ok (.goto 15, 3) := dk_167 0 15 (dk_at dksX0_load_0 10 rfl rfl)
theorem dX0_load_13 : decode cX0_load 13 = .ok (.astore 4, 2) := dk_58 4 (dk_at dksX0_load_0 13 rfl rfl)
theorem dX0_load_15 : decode cX0_load 15 = .ok (.iconst 1, 1) := dk_4 (dk_at dksX0_load_0 15 rfl rfl)
theorem dX0_load_16 : decode cX0_load 16 = .ok (.ireturn, 1) := dk_172 (dk_at dksX0_load_0 16 rfl rfl)
theorem dX0_load_17 : decode cX0_load 17 = .ok (.astore 4, 2) := dk_58 4 (dk_at dksX0_load_0 17 rfl rfl)
theorem dX0_load_19 : decode cX0_load 19 = .ok (.iconst 2, 1) := dk_5 (dk_at dksX0_load_0 19 rfl rfl)
theorem dX0_load_20 : decode cX0_load 20 = .ok (.ireturn, 1) := dk_172 (dk_at dksX0_load_0 20 rfl rfl)
theorem dX0_load_21 : decode cX0_load 21 = .ok (.astore 4, 2) := dk_58 4 (dk_at dksX0_load_0 21 rfl rfl)
theorem dX0_load_23 : decode cX0_load 23 = .ok (.iconst 3, 1) := dk_6 (dk_at dksX0_load_0 23 rfl rfl)
theorem dX0_load_24 : decode cX0_load 24 = .ok (.ireturn, 1) := dk_172 (dk_at dksX0_load_1 0 rfl rfl)
theorem dX0_load_25 : decode cX0_load 25 = .ok (.iconst 0, 1) := dk_3 (dk_at dksX0_load_1 1 rfl rfl)
theorem dX0_load_26 : decode cX0_load 26 = .ok (.ireturn, 1) := dk_172 (dk_at dksX0_load_1 2 rfl rfl)
abbrev cX0_valueByHistory : ByteArray := method_36_code
def yX0_valueByHistory : MethodName := ⟨RX0, "valueByHistory", "(LQuorumAlmanac;I[J)I"⟩
def dkwX0_valueByHistory_0 : List UInt8 := [44, 3, 42, 27, 182, 0, 126, 133, 80, 167, 0, 6, 78, 4, 172, 3, 172]
abbrev dktX0_valueByHistory_0 : List UInt8 := dkwX0_valueByHistory_0 ++ []
theorem dksX0_valueByHistory_0 : cX0_valueByHistory.data.toList.drop 0 = dktX0_valueByHistory_0 := by decide +kernel
theorem dX0_valueByHistory_0 : decode cX0_valueByHistory 0 = .ok (.aload_n 2, 1) := dk_44 (dk_at dksX0_valueByHistory_0 0 rfl rfl)
theorem dX0_valueByHistory_1 : decode cX0_valueByHistory 1 = .ok (.iconst 0, 1) := dk_3 (dk_at dksX0_valueByHistory_0 1 rfl rfl)
theorem dX0_valueByHistory_2 : decode cX0_valueByHistory 2 = .ok (.aload_n 0, 1) := dk_42 (dk_at dksX0_valueByHistory_0 2 rfl rfl)
theorem dX0_valueByHistory_3 : decode cX0_valueByHistory 3 = .ok (.iload_n 1, 1) := dk_27 (dk_at dksX0_valueByHistory_0 3 rfl rfl)
theorem dX0_valueByHistory_4 : decode cX0_valueByHistory 4 = .ok (.invokevirtual 126, 3) := dk_182 0 126 (dk_at dksX0_valueByHistory_0 4 rfl rfl)
theorem dX0_valueByHistory_7 : decode cX0_valueByHistory 7 = .ok (.i2l, 1) := dk_133 (dk_at dksX0_valueByHistory_0 7 rfl rfl)
theorem dX0_valueByHistory_8 : decode cX0_valueByHistory 8 = .ok (.lastore, 1) := dk_80 (dk_at dksX0_valueByHistory_0 8 rfl rfl)
theorem dX0_valueByHistory_9 : decode cX0_valueByHistory 9 = .ok (.goto 6, 3) := dk_167 0 6 (dk_at dksX0_valueByHistory_0 9 rfl rfl)
theorem dX0_valueByHistory_12 : decode cX0_valueByHistory 12 = .ok (.astore_n 3, 1) := dk_78 (dk_at dksX0_valueByHistory_0 12 rfl rfl)
theorem dX0_valueByHistory_13 : decode cX0_valueByHistory 13 = .ok (.iconst 1, 1) := dk_4 (dk_at dksX0_valueByHistory_0 13 rfl rfl)
theorem dX0_valueByHistory_14 : decode cX0_valueByHistory 14 = .ok (.ireturn, 1) := dk_172 (dk_at dksX0_valueByHistory_0 14 rfl rfl)
theorem dX0_valueByHistory_15 : decode cX0_valueByHistory 15 = .ok (.iconst 0, 1) := dk_3 (dk_at dksX0_valueByHistory_0 15 rfl rfl)
theorem dX0_valueByHistory_16 : decode cX0_valueByHistory 16 = .ok (.ireturn, 1) := dk_172 (dk_at dksX0_valueByHistory_0 16 rfl rfl)
abbrev cX0_refusedShare : ByteArray := method_37_code
def yX0_refusedShare : MethodName := ⟨RX0, "refusedShare", "(LQuorumAlmanac;[D)I"⟩
def dkwX0_refusedShare_0 : List UInt8 := [43, 3, 42, 182, 0, 129, 141, 82, 167, 0, 6, 77, 4, 172, 3, 172]
abbrev dktX0_refusedShare_0 : List UInt8 := dkwX0_refusedShare_0 ++ []
theorem dksX0_refusedShare_0 : cX0_refusedShare.data.toList.drop 0 = dktX0_refusedShare_0 := by decide +kernel
theorem dX0_refusedShare_0 : decode cX0_refusedShare 0 = .ok (.aload_n 1, 1) := dk_43 (dk_at dksX0_refusedShare_0 0 rfl rfl)
theorem dX0_refusedShare_1 : decode cX0_refusedShare 1 = .ok (.iconst 0, 1) := dk_3 (dk_at dksX0_refusedShare_0 1 rfl rfl)
theorem dX0_refusedShare_2 : decode cX0_refusedShare 2 = .ok (.aload_n 0, 1) := dk_42 (dk_at dksX0_refusedShare_0 2 rfl rfl)
theorem dX0_refusedShare_3 : decode cX0_refusedShare 3 = .ok (.invokevirtual 129, 3) := dk_182 0 129 (dk_at dksX0_refusedShare_0 3 rfl rfl)
theorem dX0_refusedShare_6 : decode cX0_refusedShare 6 = .ok (.f2d, 1) := dk_141 (dk_at dksX0_refusedShare_0 6 rfl rfl)
theorem dX0_refusedShare_7 : decode cX0_refusedShare 7 = .ok (.dastore, 1) := dk_82 (dk_at dksX0_refusedShare_0 7 rfl rfl)
theorem dX0_refusedShare_8 : decode cX0_refusedShare 8 = .ok (.goto 6, 3) := dk_167 0 6 (dk_at dksX0_refusedShare_0 8 rfl rfl)
theorem dX0_refusedShare_11 : decode cX0_refusedShare 11 = .ok (.astore_n 2, 1) := dk_77 (dk_at dksX0_refusedShare_0 11 rfl rfl)
theorem dX0_refusedShare_12 : decode cX0_refusedShare 12 = .ok (.iconst 1, 1) := dk_4 (dk_at dksX0_refusedShare_0 12 rfl rfl)
theorem dX0_refusedShare_13 : decode cX0_refusedShare 13 = .ok (.ireturn, 1) := dk_172 (dk_at dksX0_refusedShare_0 13 rfl rfl)
theorem dX0_refusedShare_14 : decode cX0_refusedShare 14 = .ok (.iconst 0, 1) := dk_3 (dk_at dksX0_refusedShare_0 14 rfl rfl)
theorem dX0_refusedShare_15 : decode cX0_refusedShare 15 = .ok (.ireturn, 1) := dk_172 (dk_at dksX0_refusedShare_0 15 rfl rfl)
theorem q44 : (Jvm.Cond.initialized "QuorumAlmanacLaw") ∈ lw_all := lw_g (lw_at lw_m1 0 rfl) rfl
theorem q97 : (Jvm.Cond.classLink "QuorumAlmanacLaw" (8 : Nat) "QuorumAlmanac") ∈ lw_all := lw_g (lw_at lw_m1 53 rfl) rfl
theorem q99 : (Jvm.Cond.methodLink "QuorumAlmanacLaw" (141 : Nat) ({ cls := "QuorumAlmanac", name := "<init>", desc := "(I)V" } : Jvm.MethodName)) ∈ lw_all := lw_g (lw_at lw_m1 55 rfl) rfl
theorem q344 : (Jvm.Cond.methodLink "QuorumAlmanacLaw" (200 : Nat) ({ cls := "QuorumAlmanac", name := "waiting", desc := "()I" } : Jvm.MethodName)) ∈ lw_all := lw_g (lw_at lw_m2 60 rfl) rfl
theorem q349 : (Jvm.Cond.methodLink "QuorumAlmanacLaw" (258 : Nat) ({ cls := "QuorumAlmanac", name := "history", desc := "()I" } : Jvm.MethodName)) ∈ lw_all := lw_g (lw_at lw_m2 65 rfl) rfl
theorem q353 : (Jvm.Cond.methodLink "QuorumAlmanacLaw" (265 : Nat) ({ cls := "QuorumAlmanac", name := "delivered", desc := "()J" } : Jvm.MethodName)) ∈ lw_all := lw_g (lw_at lw_m2 69 rfl) rfl
theorem q357 : (Jvm.Cond.methodLink "QuorumAlmanacLaw" (274 : Nat) ({ cls := "QuorumAlmanac", name := "meanLast", desc := "()D" } : Jvm.MethodName)) ∈ lw_all := lw_g (lw_at lw_m2 73 rfl) rfl
theorem q366 : (Jvm.Cond.methodLink "QuorumAlmanacLaw" (279 : Nat) ({ cls := "QuorumAlmanac", name := "isSound", desc := "()Z" } : Jvm.MethodName)) ∈ lw_all := lw_g (lw_at lw_m2 82 rfl) rfl
theorem q778 : (Jvm.Cond.methodLink "QuorumAlmanacLaw" (135 : Nat) ({ cls := "QuorumAlmanacLaw", name := "cell", desc := "([II)I" } : Jvm.MethodName)) ∈ lw_all := lw_g (lw_at lw_m4 14 rfl) rfl
theorem q779 : (Jvm.Cond.static ({ cls := "QuorumAlmanacLaw", name := "cell", desc := "([II)I" } : Jvm.MethodName)) ∈ lw_all := lw_g (lw_at lw_m4 15 rfl) rfl
theorem q780 : (Jvm.Cond.code ({ cls := "QuorumAlmanacLaw", name := "cell", desc := "([II)I" } : Jvm.MethodName) method_2_code (2 : Nat) (Option.some Jvm.ClassFile.FieldType.int)) ∈ lw_all := lw_g (lw_at lw_m4 16 rfl) rfl
theorem q781 : (Jvm.Cond.methodLink "QuorumAlmanacLaw" (147 : Nat) ({ cls := "QuorumAlmanacLaw", name := "tick", desc := "(LQuorumAlmanac;I[J)I" } : Jvm.MethodName)) ∈ lw_all := lw_g (lw_at lw_m4 17 rfl) rfl
theorem q782 : (Jvm.Cond.static ({ cls := "QuorumAlmanacLaw", name := "tick", desc := "(LQuorumAlmanac;I[J)I" } : Jvm.MethodName)) ∈ lw_all := lw_g (lw_at lw_m4 18 rfl) rfl
theorem q783 : (Jvm.Cond.codeWith ({ cls := "QuorumAlmanacLaw", name := "tick", desc := "(LQuorumAlmanac;I[J)I" } : Jvm.MethodName) method_3_code (4 : Nat) (Option.some Jvm.ClassFile.FieldType.int) [((0 : Nat), (9 : Nat), (12 : Nat), (13 : Nat)), ((0 : Nat), (9 : Nat), (15 : Nat), (15 : Nat))]) ∈ lw_all := lw_g (lw_at lw_m4 19 rfl) rfl
theorem q784 : (Jvm.Cond.classLink "QuorumAlmanacLaw" (13 : Nat) "java/lang/IndexOutOfBoundsException") ∈ lw_all := lw_g (lw_at lw_m4 20 rfl) rfl
theorem q865 : (Jvm.Cond.classLink "QuorumAlmanacLaw" (15 : Nat) "java/lang/IllegalStateException") ∈ lw_all := lw_g (lw_at lw_m4 101 rfl) rfl
theorem q866 : (Jvm.Cond.methodLink "QuorumAlmanacLaw" (7 : Nat) ({ cls := "QuorumAlmanac", name := "tick", desc := "(I)I" } : Jvm.MethodName)) ∈ lw_all := lw_g (lw_at lw_m4 102 rfl) rfl
theorem q1280 : (Jvm.Cond.methodLink "QuorumAlmanacLaw" (154 : Nat) ({ cls := "QuorumAlmanacLaw", name := "sync", desc := "(LQuorumAlmanac;I[J)I" } : Jvm.MethodName)) ∈ lw_all := lw_g (lw_at lw_m6 36 rfl) rfl
theorem q1281 : (Jvm.Cond.static ({ cls := "QuorumAlmanacLaw", name := "sync", desc := "(LQuorumAlmanac;I[J)I" } : Jvm.MethodName)) ∈ lw_all := lw_g (lw_at lw_m6 37 rfl) rfl
theorem q1282 : (Jvm.Cond.codeWith ({ cls := "QuorumAlmanacLaw", name := "sync", desc := "(LQuorumAlmanac;I[J)I" } : Jvm.MethodName) method_4_code (4 : Nat) (Option.some Jvm.ClassFile.FieldType.int) [((0 : Nat), (9 : Nat), (12 : Nat), (13 : Nat)), ((0 : Nat), (9 : Nat), (15 : Nat), (15 : Nat))]) ∈ lw_all := lw_g (lw_at lw_m6 38 rfl) rfl
theorem q1283 : (Jvm.Cond.methodLink "QuorumAlmanacLaw" (17 : Nat) ({ cls := "QuorumAlmanac", name := "sync", desc := "(I)I" } : Jvm.MethodName)) ∈ lw_all := lw_g (lw_at lw_m6 39 rfl) rfl
theorem q1344 : (Jvm.Cond.methodLink "QuorumAlmanacLaw" (157 : Nat) ({ cls := "QuorumAlmanacLaw", name := "crash", desc := "(LQuorumAlmanac;I[J)I" } : Jvm.MethodName)) ∈ lw_all := lw_g (lw_at lw_m6 100 rfl) rfl
theorem q1345 : (Jvm.Cond.static ({ cls := "QuorumAlmanacLaw", name := "crash", desc := "(LQuorumAlmanac;I[J)I" } : Jvm.MethodName)) ∈ lw_all := lw_g (lw_at lw_m6 101 rfl) rfl
theorem q1346 : (Jvm.Cond.codeWith ({ cls := "QuorumAlmanacLaw", name := "crash", desc := "(LQuorumAlmanac;I[J)I" } : Jvm.MethodName) method_5_code (4 : Nat) (Option.some Jvm.ClassFile.FieldType.int) [((0 : Nat), (9 : Nat), (12 : Nat), (13 : Nat)), ((0 : Nat), (9 : Nat), (15 : Nat), (15 : Nat))]) ∈ lw_all := lw_g (lw_at lw_m6 102 rfl) rfl
theorem q1347 : (Jvm.Cond.methodLink "QuorumAlmanacLaw" (20 : Nat) ({ cls := "QuorumAlmanac", name := "crash", desc := "(I)I" } : Jvm.MethodName)) ∈ lw_all := lw_g (lw_at lw_m6 103 rfl) rfl
theorem q1366 : (Jvm.Cond.methodLink "QuorumAlmanacLaw" (160 : Nat) ({ cls := "QuorumAlmanacLaw", name := "start", desc := "(LQuorumAlmanac;I[J)I" } : Jvm.MethodName)) ∈ lw_all := lw_g (lw_at lw_m6 122 rfl) rfl
theorem q1367 : (Jvm.Cond.static ({ cls := "QuorumAlmanacLaw", name := "start", desc := "(LQuorumAlmanac;I[J)I" } : Jvm.MethodName)) ∈ lw_all := lw_g (lw_at lw_m6 123 rfl) rfl
theorem q1368 : (Jvm.Cond.codeWith ({ cls := "QuorumAlmanacLaw", name := "start", desc := "(LQuorumAlmanac;I[J)I" } : Jvm.MethodName) method_6_code (4 : Nat) (Option.some Jvm.ClassFile.FieldType.int) [((0 : Nat), (9 : Nat), (12 : Nat), (13 : Nat)), ((0 : Nat), (9 : Nat), (15 : Nat), (15 : Nat))]) ∈ lw_all := lw_g (lw_at lw_m6 124 rfl) rfl
theorem q1369 : (Jvm.Cond.methodLink "QuorumAlmanacLaw" (23 : Nat) ({ cls := "QuorumAlmanac", name := "start", desc := "(I)I" } : Jvm.MethodName)) ∈ lw_all := lw_g (lw_at lw_m6 125 rfl) rfl
theorem q1378 : (Jvm.Cond.methodLink "QuorumAlmanacLaw" (163 : Nat) ({ cls := "QuorumAlmanacLaw", name := "compact", desc := "(LQuorumAlmanac;I[J)I" } : Jvm.MethodName)) ∈ lw_all := lw_g (lw_at lw_m6 134 rfl) rfl
theorem q1379 : (Jvm.Cond.static ({ cls := "QuorumAlmanacLaw", name := "compact", desc := "(LQuorumAlmanac;I[J)I" } : Jvm.MethodName)) ∈ lw_all := lw_g (lw_at lw_m6 135 rfl) rfl
theorem q1380 : (Jvm.Cond.codeWith ({ cls := "QuorumAlmanacLaw", name := "compact", desc := "(LQuorumAlmanac;I[J)I" } : Jvm.MethodName) method_7_code (4 : Nat) (Option.some Jvm.ClassFile.FieldType.int) [((0 : Nat), (9 : Nat), (12 : Nat), (13 : Nat)), ((0 : Nat), (9 : Nat), (15 : Nat), (15 : Nat))]) ∈ lw_all := lw_g (lw_at lw_m6 136 rfl) rfl
theorem q1381 : (Jvm.Cond.methodLink "QuorumAlmanacLaw" (26 : Nat) ({ cls := "QuorumAlmanac", name := "compact", desc := "(I)I" } : Jvm.MethodName)) ∈ lw_all := lw_g (lw_at lw_m6 137 rfl) rfl
theorem q1393 : (Jvm.Cond.methodLink "QuorumAlmanacLaw" (166 : Nat) ({ cls := "QuorumAlmanacLaw", name := "role", desc := "(LQuorumAlmanac;I[J)I" } : Jvm.MethodName)) ∈ lw_all := lw_g (lw_at lw_m6 149 rfl) rfl
theorem q1394 : (Jvm.Cond.static ({ cls := "QuorumAlmanacLaw", name := "role", desc := "(LQuorumAlmanac;I[J)I" } : Jvm.MethodName)) ∈ lw_all := lw_g (lw_at lw_m6 150 rfl) rfl
theorem q1395 : (Jvm.Cond.codeWith ({ cls := "QuorumAlmanacLaw", name := "role", desc := "(LQuorumAlmanac;I[J)I" } : Jvm.MethodName) method_8_code (4 : Nat) (Option.some Jvm.ClassFile.FieldType.int) [((0 : Nat), (9 : Nat), (12 : Nat), (13 : Nat))]) ∈ lw_all := lw_g (lw_at lw_m6 151 rfl) rfl
theorem q1396 : (Jvm.Cond.methodLink "QuorumAlmanacLaw" (29 : Nat) ({ cls := "QuorumAlmanac", name := "role", desc := "(I)C" } : Jvm.MethodName)) ∈ lw_all := lw_g (lw_at lw_m6 152 rfl) rfl
theorem q1400 : (Jvm.Cond.methodLink "QuorumAlmanacLaw" (169 : Nat) ({ cls := "QuorumAlmanacLaw", name := "term", desc := "(LQuorumAlmanac;I[J)I" } : Jvm.MethodName)) ∈ lw_all := lw_g (lw_at lw_m6 156 rfl) rfl
theorem q1401 : (Jvm.Cond.static ({ cls := "QuorumAlmanacLaw", name := "term", desc := "(LQuorumAlmanac;I[J)I" } : Jvm.MethodName)) ∈ lw_all := lw_g (lw_at lw_m6 157 rfl) rfl
theorem q1402 : (Jvm.Cond.codeWith ({ cls := "QuorumAlmanacLaw", name := "term", desc := "(LQuorumAlmanac;I[J)I" } : Jvm.MethodName) method_9_code (4 : Nat) (Option.some Jvm.ClassFile.FieldType.int) [((0 : Nat), (9 : Nat), (12 : Nat), (13 : Nat))]) ∈ lw_all := lw_g (lw_at lw_m6 158 rfl) rfl
theorem q1403 : (Jvm.Cond.methodLink "QuorumAlmanacLaw" (33 : Nat) ({ cls := "QuorumAlmanac", name := "term", desc := "(I)I" } : Jvm.MethodName)) ∈ lw_all := lw_g (lw_at lw_m6 159 rfl) rfl
theorem q1407 : (Jvm.Cond.methodLink "QuorumAlmanacLaw" (172 : Nat) ({ cls := "QuorumAlmanacLaw", name := "vote", desc := "(LQuorumAlmanac;I[J)I" } : Jvm.MethodName)) ∈ lw_all := lw_g (lw_at lw_m6 163 rfl) rfl
theorem q1408 : (Jvm.Cond.static ({ cls := "QuorumAlmanacLaw", name := "vote", desc := "(LQuorumAlmanac;I[J)I" } : Jvm.MethodName)) ∈ lw_all := lw_g (lw_at lw_m6 164 rfl) rfl
theorem q1409 : (Jvm.Cond.codeWith ({ cls := "QuorumAlmanacLaw", name := "vote", desc := "(LQuorumAlmanac;I[J)I" } : Jvm.MethodName) method_10_code (4 : Nat) (Option.some Jvm.ClassFile.FieldType.int) [((0 : Nat), (9 : Nat), (12 : Nat), (13 : Nat)), ((0 : Nat), (9 : Nat), (15 : Nat), (39 : Nat))]) ∈ lw_all := lw_g (lw_at lw_m6 165 rfl) rfl
theorem q1410 : (Jvm.Cond.classLink "QuorumAlmanacLaw" (39 : Nat) "java/util/NoSuchElementException") ∈ lw_all := lw_g (lw_at lw_m6 166 rfl) rfl
theorem q1411 : (Jvm.Cond.methodLink "QuorumAlmanacLaw" (36 : Nat) ({ cls := "QuorumAlmanac", name := "vote", desc := "(I)I" } : Jvm.MethodName)) ∈ lw_all := lw_g (lw_at lw_m6 167 rfl) rfl
theorem q1420 : (Jvm.Cond.methodLink "QuorumAlmanacLaw" (175 : Nat) ({ cls := "QuorumAlmanacLaw", name := "clock", desc := "(LQuorumAlmanac;I[J)I" } : Jvm.MethodName)) ∈ lw_all := lw_g (lw_at lw_m6 176 rfl) rfl
theorem q1421 : (Jvm.Cond.static ({ cls := "QuorumAlmanacLaw", name := "clock", desc := "(LQuorumAlmanac;I[J)I" } : Jvm.MethodName)) ∈ lw_all := lw_g (lw_at lw_m6 177 rfl) rfl
theorem q1422 : (Jvm.Cond.codeWith ({ cls := "QuorumAlmanacLaw", name := "clock", desc := "(LQuorumAlmanac;I[J)I" } : Jvm.MethodName) method_11_code (4 : Nat) (Option.some Jvm.ClassFile.FieldType.int) [((0 : Nat), (9 : Nat), (12 : Nat), (13 : Nat))]) ∈ lw_all := lw_g (lw_at lw_m6 178 rfl) rfl
theorem q1423 : (Jvm.Cond.methodLink "QuorumAlmanacLaw" (41 : Nat) ({ cls := "QuorumAlmanac", name := "clock", desc := "(I)I" } : Jvm.MethodName)) ∈ lw_all := lw_g (lw_at lw_m6 179 rfl) rfl
theorem q1427 : (Jvm.Cond.methodLink "QuorumAlmanacLaw" (178 : Nat) ({ cls := "QuorumAlmanacLaw", name := "last", desc := "(LQuorumAlmanac;I[J)I" } : Jvm.MethodName)) ∈ lw_all := lw_g (lw_at lw_m6 183 rfl) rfl
theorem q1428 : (Jvm.Cond.static ({ cls := "QuorumAlmanacLaw", name := "last", desc := "(LQuorumAlmanac;I[J)I" } : Jvm.MethodName)) ∈ lw_all := lw_g (lw_at lw_m6 184 rfl) rfl
theorem q1429 : (Jvm.Cond.codeWith ({ cls := "QuorumAlmanacLaw", name := "last", desc := "(LQuorumAlmanac;I[J)I" } : Jvm.MethodName) method_12_code (4 : Nat) (Option.some Jvm.ClassFile.FieldType.int) [((0 : Nat), (9 : Nat), (12 : Nat), (13 : Nat))]) ∈ lw_all := lw_g (lw_at lw_m6 185 rfl) rfl
theorem q1430 : (Jvm.Cond.methodLink "QuorumAlmanacLaw" (44 : Nat) ({ cls := "QuorumAlmanac", name := "last", desc := "(I)I" } : Jvm.MethodName)) ∈ lw_all := lw_g (lw_at lw_m6 186 rfl) rfl
theorem q1434 : (Jvm.Cond.methodLink "QuorumAlmanacLaw" (181 : Nat) ({ cls := "QuorumAlmanacLaw", name := "synced", desc := "(LQuorumAlmanac;I[J)I" } : Jvm.MethodName)) ∈ lw_all := lw_g (lw_at lw_m6 190 rfl) rfl
theorem q1435 : (Jvm.Cond.static ({ cls := "QuorumAlmanacLaw", name := "synced", desc := "(LQuorumAlmanac;I[J)I" } : Jvm.MethodName)) ∈ lw_all := lw_g (lw_at lw_m6 191 rfl) rfl
theorem q1436 : (Jvm.Cond.codeWith ({ cls := "QuorumAlmanacLaw", name := "synced", desc := "(LQuorumAlmanac;I[J)I" } : Jvm.MethodName) method_13_code (4 : Nat) (Option.some Jvm.ClassFile.FieldType.int) [((0 : Nat), (9 : Nat), (12 : Nat), (13 : Nat))]) ∈ lw_all := lw_g (lw_at lw_m6 192 rfl) rfl
theorem q1437 : (Jvm.Cond.methodLink "QuorumAlmanacLaw" (47 : Nat) ({ cls := "QuorumAlmanac", name := "synced", desc := "(I)I" } : Jvm.MethodName)) ∈ lw_all := lw_g (lw_at lw_m6 193 rfl) rfl
theorem q1441 : (Jvm.Cond.methodLink "QuorumAlmanacLaw" (184 : Nat) ({ cls := "QuorumAlmanacLaw", name := "committed", desc := "(LQuorumAlmanac;I[J)I" } : Jvm.MethodName)) ∈ lw_all := lw_g (lw_at lw_m6 197 rfl) rfl
theorem q1442 : (Jvm.Cond.static ({ cls := "QuorumAlmanacLaw", name := "committed", desc := "(LQuorumAlmanac;I[J)I" } : Jvm.MethodName)) ∈ lw_all := lw_g (lw_at lw_m6 198 rfl) rfl
theorem q1443 : (Jvm.Cond.codeWith ({ cls := "QuorumAlmanacLaw", name := "committed", desc := "(LQuorumAlmanac;I[J)I" } : Jvm.MethodName) method_14_code (4 : Nat) (Option.some Jvm.ClassFile.FieldType.int) [((0 : Nat), (9 : Nat), (12 : Nat), (13 : Nat))]) ∈ lw_all := lw_g (lw_at lw_m6 199 rfl) rfl
theorem q1444 : (Jvm.Cond.methodLink "QuorumAlmanacLaw" (50 : Nat) ({ cls := "QuorumAlmanac", name := "committed", desc := "(I)I" } : Jvm.MethodName)) ∈ lw_all := lw_g (lw_at lw_m6 200 rfl) rfl
theorem q1448 : (Jvm.Cond.methodLink "QuorumAlmanacLaw" (187 : Nat) ({ cls := "QuorumAlmanacLaw", name := "snapshot", desc := "(LQuorumAlmanac;I[J)I" } : Jvm.MethodName)) ∈ lw_all := lw_g (lw_at lw_m6 204 rfl) rfl
theorem q1449 : (Jvm.Cond.static ({ cls := "QuorumAlmanacLaw", name := "snapshot", desc := "(LQuorumAlmanac;I[J)I" } : Jvm.MethodName)) ∈ lw_all := lw_g (lw_at lw_m6 205 rfl) rfl
theorem q1450 : (Jvm.Cond.codeWith ({ cls := "QuorumAlmanacLaw", name := "snapshot", desc := "(LQuorumAlmanac;I[J)I" } : Jvm.MethodName) method_15_code (4 : Nat) (Option.some Jvm.ClassFile.FieldType.int) [((0 : Nat), (9 : Nat), (12 : Nat), (13 : Nat))]) ∈ lw_all := lw_g (lw_at lw_m6 206 rfl) rfl
theorem q1451 : (Jvm.Cond.methodLink "QuorumAlmanacLaw" (53 : Nat) ({ cls := "QuorumAlmanac", name := "snapshot", desc := "(I)I" } : Jvm.MethodName)) ∈ lw_all := lw_g (lw_at lw_m6 207 rfl) rfl
theorem q1455 : (Jvm.Cond.methodLink "QuorumAlmanacLaw" (190 : Nat) ({ cls := "QuorumAlmanacLaw", name := "members", desc := "(LQuorumAlmanac;I[J)I" } : Jvm.MethodName)) ∈ lw_all := lw_g (lw_at lw_m6 211 rfl) rfl
theorem q1456 : (Jvm.Cond.static ({ cls := "QuorumAlmanacLaw", name := "members", desc := "(LQuorumAlmanac;I[J)I" } : Jvm.MethodName)) ∈ lw_all := lw_g (lw_at lw_m6 212 rfl) rfl
theorem q1457 : (Jvm.Cond.codeWith ({ cls := "QuorumAlmanacLaw", name := "members", desc := "(LQuorumAlmanac;I[J)I" } : Jvm.MethodName) method_16_code (4 : Nat) (Option.some Jvm.ClassFile.FieldType.int) [((0 : Nat), (9 : Nat), (12 : Nat), (13 : Nat))]) ∈ lw_all := lw_g (lw_at lw_m6 213 rfl) rfl
theorem q1458 : (Jvm.Cond.methodLink "QuorumAlmanacLaw" (56 : Nat) ({ cls := "QuorumAlmanac", name := "members", desc := "(I)I" } : Jvm.MethodName)) ∈ lw_all := lw_g (lw_at lw_m6 214 rfl) rfl
theorem q1464 : (Jvm.Cond.methodLink "QuorumAlmanacLaw" (193 : Nat) ({ cls := "QuorumAlmanacLaw", name := "entryTerm", desc := "(LQuorumAlmanac;II[J)I" } : Jvm.MethodName)) ∈ lw_all := lw_g (lw_at lw_m6 220 rfl) rfl
theorem q1465 : (Jvm.Cond.static ({ cls := "QuorumAlmanacLaw", name := "entryTerm", desc := "(LQuorumAlmanac;II[J)I" } : Jvm.MethodName)) ∈ lw_all := lw_g (lw_at lw_m6 221 rfl) rfl
theorem q1466 : (Jvm.Cond.codeWith ({ cls := "QuorumAlmanacLaw", name := "entryTerm", desc := "(LQuorumAlmanac;II[J)I" } : Jvm.MethodName) method_17_code (5 : Nat) (Option.some Jvm.ClassFile.FieldType.int) [((0 : Nat), (10 : Nat), (13 : Nat), (13 : Nat)), ((0 : Nat), (10 : Nat), (17 : Nat), (39 : Nat))]) ∈ lw_all := lw_g (lw_at lw_m6 222 rfl) rfl
theorem q1467 : (Jvm.Cond.methodLink "QuorumAlmanacLaw" (59 : Nat) ({ cls := "QuorumAlmanac", name := "entryTerm", desc := "(II)I" } : Jvm.MethodName)) ∈ lw_all := lw_g (lw_at lw_m6 223 rfl) rfl
theorem q1476 : (Jvm.Cond.methodLink "QuorumAlmanacLaw" (197 : Nat) ({ cls := "QuorumAlmanacLaw", name := "entryKind", desc := "(LQuorumAlmanac;II[J)I" } : Jvm.MethodName)) ∈ lw_all := lw_g (lw_at lw_m6 232 rfl) rfl
theorem q1477 : (Jvm.Cond.static ({ cls := "QuorumAlmanacLaw", name := "entryKind", desc := "(LQuorumAlmanac;II[J)I" } : Jvm.MethodName)) ∈ lw_all := lw_g (lw_at lw_m6 233 rfl) rfl
theorem q1478 : (Jvm.Cond.codeWith ({ cls := "QuorumAlmanacLaw", name := "entryKind", desc := "(LQuorumAlmanac;II[J)I" } : Jvm.MethodName) method_18_code (5 : Nat) (Option.some Jvm.ClassFile.FieldType.int) [((0 : Nat), (10 : Nat), (13 : Nat), (13 : Nat)), ((0 : Nat), (10 : Nat), (17 : Nat), (39 : Nat))]) ∈ lw_all := lw_g (lw_at lw_m6 234 rfl) rfl
theorem q1479 : (Jvm.Cond.methodLink "QuorumAlmanacLaw" (63 : Nat) ({ cls := "QuorumAlmanac", name := "entryKind", desc := "(II)C" } : Jvm.MethodName)) ∈ lw_all := lw_g (lw_at lw_m6 235 rfl) rfl
theorem q1483 : (Jvm.Cond.methodLink "QuorumAlmanacLaw" (204 : Nat) ({ cls := "QuorumAlmanacLaw", name := "earliest", desc := "(LQuorumAlmanac;[J)I" } : Jvm.MethodName)) ∈ lw_all := lw_g (lw_at lw_m6 239 rfl) rfl
theorem q1484 : (Jvm.Cond.static ({ cls := "QuorumAlmanacLaw", name := "earliest", desc := "(LQuorumAlmanac;[J)I" } : Jvm.MethodName)) ∈ lw_all := lw_g (lw_at lw_m7 0 rfl) rfl
theorem q1485 : (Jvm.Cond.codeWith ({ cls := "QuorumAlmanacLaw", name := "earliest", desc := "(LQuorumAlmanac;[J)I" } : Jvm.MethodName) method_19_code (3 : Nat) (Option.some Jvm.ClassFile.FieldType.int) [((0 : Nat), (8 : Nat), (11 : Nat), (39 : Nat))]) ∈ lw_all := lw_g (lw_at lw_m7 1 rfl) rfl
theorem q1486 : (Jvm.Cond.methodLink "QuorumAlmanacLaw" (67 : Nat) ({ cls := "QuorumAlmanac", name := "earliest", desc := "()I" } : Jvm.MethodName)) ∈ lw_all := lw_g (lw_at lw_m7 2 rfl) rfl
theorem q1495 : (Jvm.Cond.methodLink "QuorumAlmanacLaw" (208 : Nat) ({ cls := "QuorumAlmanacLaw", name := "kindOf", desc := "(LQuorumAlmanac;I[J)I" } : Jvm.MethodName)) ∈ lw_all := lw_g (lw_at lw_m7 11 rfl) rfl
theorem q1496 : (Jvm.Cond.static ({ cls := "QuorumAlmanacLaw", name := "kindOf", desc := "(LQuorumAlmanac;I[J)I" } : Jvm.MethodName)) ∈ lw_all := lw_g (lw_at lw_m7 12 rfl) rfl
theorem q1497 : (Jvm.Cond.codeWith ({ cls := "QuorumAlmanacLaw", name := "kindOf", desc := "(LQuorumAlmanac;I[J)I" } : Jvm.MethodName) method_20_code (4 : Nat) (Option.some Jvm.ClassFile.FieldType.int) [((0 : Nat), (9 : Nat), (12 : Nat), (39 : Nat))]) ∈ lw_all := lw_g (lw_at lw_m7 13 rfl) rfl
theorem q1498 : (Jvm.Cond.methodLink "QuorumAlmanacLaw" (71 : Nat) ({ cls := "QuorumAlmanac", name := "kindOf", desc := "(I)C" } : Jvm.MethodName)) ∈ lw_all := lw_g (lw_at lw_m7 14 rfl) rfl
theorem q1529 : (Jvm.Cond.methodLink "QuorumAlmanacLaw" (211 : Nat) ({ cls := "QuorumAlmanacLaw", name := "between", desc := "(LQuorumAlmanac;I[J)I" } : Jvm.MethodName)) ∈ lw_all := lw_g (lw_at lw_m7 45 rfl) rfl
theorem q1530 : (Jvm.Cond.static ({ cls := "QuorumAlmanacLaw", name := "between", desc := "(LQuorumAlmanac;I[J)I" } : Jvm.MethodName)) ∈ lw_all := lw_g (lw_at lw_m7 46 rfl) rfl
theorem q1531 : (Jvm.Cond.codeWith ({ cls := "QuorumAlmanacLaw", name := "between", desc := "(LQuorumAlmanac;I[J)I" } : Jvm.MethodName) method_21_code (4 : Nat) (Option.some Jvm.ClassFile.FieldType.int) [((0 : Nat), (9 : Nat), (12 : Nat), (39 : Nat))]) ∈ lw_all := lw_g (lw_at lw_m7 47 rfl) rfl
theorem q1532 : (Jvm.Cond.methodLink "QuorumAlmanacLaw" (74 : Nat) ({ cls := "QuorumAlmanac", name := "between", desc := "(I)I" } : Jvm.MethodName)) ∈ lw_all := lw_g (lw_at lw_m7 48 rfl) rfl
theorem q1536 : (Jvm.Cond.methodLink "QuorumAlmanacLaw" (214 : Nat) ({ cls := "QuorumAlmanacLaw", name := "deliver", desc := "(LQuorumAlmanac;I[J)I" } : Jvm.MethodName)) ∈ lw_all := lw_g (lw_at lw_m7 52 rfl) rfl
theorem q1537 : (Jvm.Cond.static ({ cls := "QuorumAlmanacLaw", name := "deliver", desc := "(LQuorumAlmanac;I[J)I" } : Jvm.MethodName)) ∈ lw_all := lw_g (lw_at lw_m7 53 rfl) rfl
theorem q1538 : (Jvm.Cond.codeWith ({ cls := "QuorumAlmanacLaw", name := "deliver", desc := "(LQuorumAlmanac;I[J)I" } : Jvm.MethodName) method_22_code (4 : Nat) (Option.some Jvm.ClassFile.FieldType.int) [((0 : Nat), (9 : Nat), (12 : Nat), (39 : Nat))]) ∈ lw_all := lw_g (lw_at lw_m7 54 rfl) rfl
theorem q1539 : (Jvm.Cond.methodLink "QuorumAlmanacLaw" (77 : Nat) ({ cls := "QuorumAlmanac", name := "deliver", desc := "(I)I" } : Jvm.MethodName)) ∈ lw_all := lw_g (lw_at lw_m7 55 rfl) rfl
theorem q1691 : (Jvm.Cond.methodLink "QuorumAlmanacLaw" (217 : Nat) ({ cls := "QuorumAlmanacLaw", name := "lose", desc := "(LQuorumAlmanac;I[J)I" } : Jvm.MethodName)) ∈ lw_all := lw_g (lw_at lw_m7 207 rfl) rfl
theorem q1692 : (Jvm.Cond.static ({ cls := "QuorumAlmanacLaw", name := "lose", desc := "(LQuorumAlmanac;I[J)I" } : Jvm.MethodName)) ∈ lw_all := lw_g (lw_at lw_m7 208 rfl) rfl
theorem q1693 : (Jvm.Cond.codeWith ({ cls := "QuorumAlmanacLaw", name := "lose", desc := "(LQuorumAlmanac;I[J)I" } : Jvm.MethodName) method_23_code (4 : Nat) (Option.some Jvm.ClassFile.FieldType.int) [((0 : Nat), (9 : Nat), (12 : Nat), (39 : Nat))]) ∈ lw_all := lw_g (lw_at lw_m7 209 rfl) rfl
theorem q1694 : (Jvm.Cond.methodLink "QuorumAlmanacLaw" (80 : Nat) ({ cls := "QuorumAlmanac", name := "lose", desc := "(I)I" } : Jvm.MethodName)) ∈ lw_all := lw_g (lw_at lw_m7 210 rfl) rfl
theorem q1698 : (Jvm.Cond.methodLink "QuorumAlmanacLaw" (220 : Nat) ({ cls := "QuorumAlmanacLaw", name := "copy", desc := "(LQuorumAlmanac;I[J)I" } : Jvm.MethodName)) ∈ lw_all := lw_g (lw_at lw_m7 214 rfl) rfl
theorem q1699 : (Jvm.Cond.static ({ cls := "QuorumAlmanacLaw", name := "copy", desc := "(LQuorumAlmanac;I[J)I" } : Jvm.MethodName)) ∈ lw_all := lw_g (lw_at lw_m7 215 rfl) rfl
theorem q1700 : (Jvm.Cond.codeWith ({ cls := "QuorumAlmanacLaw", name := "copy", desc := "(LQuorumAlmanac;I[J)I" } : Jvm.MethodName) method_24_code (4 : Nat) (Option.some Jvm.ClassFile.FieldType.int) [((0 : Nat), (9 : Nat), (12 : Nat), (39 : Nat))]) ∈ lw_all := lw_g (lw_at lw_m7 216 rfl) rfl
theorem q1701 : (Jvm.Cond.methodLink "QuorumAlmanacLaw" (83 : Nat) ({ cls := "QuorumAlmanac", name := "copy", desc := "(I)I" } : Jvm.MethodName)) ∈ lw_all := lw_g (lw_at lw_m7 217 rfl) rfl
theorem q1735 : (Jvm.Cond.methodLink "QuorumAlmanacLaw" (223 : Nat) ({ cls := "QuorumAlmanacLaw", name := "write", desc := "(LQuorumAlmanac;III[J)I" } : Jvm.MethodName)) ∈ lw_all := lw_g (lw_at lw_m8 11 rfl) rfl
theorem q1736 : (Jvm.Cond.static ({ cls := "QuorumAlmanacLaw", name := "write", desc := "(LQuorumAlmanac;III[J)I" } : Jvm.MethodName)) ∈ lw_all := lw_g (lw_at lw_m8 12 rfl) rfl
theorem q1737 : (Jvm.Cond.codeWith ({ cls := "QuorumAlmanacLaw", name := "write", desc := "(LQuorumAlmanac;III[J)I" } : Jvm.MethodName) method_25_code (6 : Nat) (Option.some Jvm.ClassFile.FieldType.int) [((0 : Nat), (12 : Nat), (15 : Nat), (13 : Nat)), ((0 : Nat), (12 : Nat), (19 : Nat), (90 : Nat)), ((0 : Nat), (12 : Nat), (23 : Nat), (15 : Nat))]) ∈ lw_all := lw_g (lw_at lw_m8 13 rfl) rfl
theorem q1738 : (Jvm.Cond.classLink "QuorumAlmanacLaw" (90 : Nat) "java/lang/IllegalArgumentException") ∈ lw_all := lw_g (lw_at lw_m8 14 rfl) rfl
theorem q1739 : (Jvm.Cond.methodLink "QuorumAlmanacLaw" (86 : Nat) ({ cls := "QuorumAlmanac", name := "write", desc := "(III)I" } : Jvm.MethodName)) ∈ lw_all := lw_g (lw_at lw_m8 15 rfl) rfl
theorem q1758 : (Jvm.Cond.methodLink "QuorumAlmanacLaw" (227 : Nat) ({ cls := "QuorumAlmanacLaw", name := "reshape", desc := "(LQuorumAlmanac;IIZ[J)I" } : Jvm.MethodName)) ∈ lw_all := lw_g (lw_at lw_m8 34 rfl) rfl
theorem q1759 : (Jvm.Cond.static ({ cls := "QuorumAlmanacLaw", name := "reshape", desc := "(LQuorumAlmanac;IIZ[J)I" } : Jvm.MethodName)) ∈ lw_all := lw_g (lw_at lw_m8 35 rfl) rfl
theorem q1760 : (Jvm.Cond.codeWith ({ cls := "QuorumAlmanacLaw", name := "reshape", desc := "(LQuorumAlmanac;IIZ[J)I" } : Jvm.MethodName) method_26_code (6 : Nat) (Option.some Jvm.ClassFile.FieldType.int) [((0 : Nat), (12 : Nat), (15 : Nat), (13 : Nat)), ((0 : Nat), (12 : Nat), (19 : Nat), (90 : Nat)), ((0 : Nat), (12 : Nat), (23 : Nat), (15 : Nat))]) ∈ lw_all := lw_g (lw_at lw_m8 36 rfl) rfl
theorem q1761 : (Jvm.Cond.methodLink "QuorumAlmanacLaw" (92 : Nat) ({ cls := "QuorumAlmanac", name := "reshape", desc := "(IIZ)I" } : Jvm.MethodName)) ∈ lw_all := lw_g (lw_at lw_m8 37 rfl) rfl
theorem q1765 : (Jvm.Cond.methodLink "QuorumAlmanacLaw" (231 : Nat) ({ cls := "QuorumAlmanacLaw", name := "change", desc := "(LQuorumAlmanac;II[J)I" } : Jvm.MethodName)) ∈ lw_all := lw_g (lw_at lw_m8 41 rfl) rfl
theorem q1766 : (Jvm.Cond.static ({ cls := "QuorumAlmanacLaw", name := "change", desc := "(LQuorumAlmanac;II[J)I" } : Jvm.MethodName)) ∈ lw_all := lw_g (lw_at lw_m8 42 rfl) rfl
theorem q1767 : (Jvm.Cond.codeWith ({ cls := "QuorumAlmanacLaw", name := "change", desc := "(LQuorumAlmanac;II[J)I" } : Jvm.MethodName) method_27_code (5 : Nat) (Option.some Jvm.ClassFile.FieldType.int) [((0 : Nat), (10 : Nat), (13 : Nat), (13 : Nat)), ((0 : Nat), (10 : Nat), (17 : Nat), (90 : Nat)), ((0 : Nat), (10 : Nat), (21 : Nat), (15 : Nat)), ((0 : Nat), (10 : Nat), (25 : Nat), (99 : Nat))]) ∈ lw_all := lw_g (lw_at lw_m8 43 rfl) rfl
theorem q1768 : (Jvm.Cond.classLink "QuorumAlmanacLaw" (99 : Nat) "java/lang/UnsupportedOperationException") ∈ lw_all := lw_g (lw_at lw_m8 44 rfl) rfl
theorem q1769 : (Jvm.Cond.methodLink "QuorumAlmanacLaw" (96 : Nat) ({ cls := "QuorumAlmanac", name := "change", desc := "(II)I" } : Jvm.MethodName)) ∈ lw_all := lw_g (lw_at lw_m8 45 rfl) rfl
theorem q1790 : (Jvm.Cond.methodLink "QuorumAlmanacLaw" (234 : Nat) ({ cls := "QuorumAlmanacLaw", name := "hasLease", desc := "(LQuorumAlmanac;I[J)I" } : Jvm.MethodName)) ∈ lw_all := lw_g (lw_at lw_m8 66 rfl) rfl
theorem q1791 : (Jvm.Cond.static ({ cls := "QuorumAlmanacLaw", name := "hasLease", desc := "(LQuorumAlmanac;I[J)I" } : Jvm.MethodName)) ∈ lw_all := lw_g (lw_at lw_m8 67 rfl) rfl
theorem q1792 : (Jvm.Cond.codeWith ({ cls := "QuorumAlmanacLaw", name := "hasLease", desc := "(LQuorumAlmanac;I[J)I" } : Jvm.MethodName) method_28_code (4 : Nat) (Option.some Jvm.ClassFile.FieldType.int) [((0 : Nat), (16 : Nat), (19 : Nat), (13 : Nat))]) ∈ lw_all := lw_g (lw_at lw_m8 68 rfl) rfl
theorem q1793 : (Jvm.Cond.methodLink "QuorumAlmanacLaw" (101 : Nat) ({ cls := "QuorumAlmanac", name := "hasLease", desc := "(I)Z" } : Jvm.MethodName)) ∈ lw_all := lw_g (lw_at lw_m8 69 rfl) rfl
theorem q1798 : (Jvm.Cond.methodLink "QuorumAlmanacLaw" (237 : Nat) ({ cls := "QuorumAlmanacLaw", name := "readByLease", desc := "(LQuorumAlmanac;II[J)I" } : Jvm.MethodName)) ∈ lw_all := lw_g (lw_at lw_m8 74 rfl) rfl
theorem q1799 : (Jvm.Cond.static ({ cls := "QuorumAlmanacLaw", name := "readByLease", desc := "(LQuorumAlmanac;II[J)I" } : Jvm.MethodName)) ∈ lw_all := lw_g (lw_at lw_m8 75 rfl) rfl
theorem q1800 : (Jvm.Cond.codeWith ({ cls := "QuorumAlmanacLaw", name := "readByLease", desc := "(LQuorumAlmanac;II[J)I" } : Jvm.MethodName) method_29_code (5 : Nat) (Option.some Jvm.ClassFile.FieldType.int) [((0 : Nat), (10 : Nat), (13 : Nat), (13 : Nat)), ((0 : Nat), (10 : Nat), (17 : Nat), (90 : Nat)), ((0 : Nat), (10 : Nat), (21 : Nat), (15 : Nat))]) ∈ lw_all := lw_g (lw_at lw_m8 76 rfl) rfl
theorem q1801 : (Jvm.Cond.methodLink "QuorumAlmanacLaw" (105 : Nat) ({ cls := "QuorumAlmanac", name := "readByLease", desc := "(II)I" } : Jvm.MethodName)) ∈ lw_all := lw_g (lw_at lw_m8 77 rfl) rfl
theorem q1808 : (Jvm.Cond.methodLink "QuorumAlmanacLaw" (240 : Nat) ({ cls := "QuorumAlmanacLaw", name := "askRead", desc := "(LQuorumAlmanac;II[J)I" } : Jvm.MethodName)) ∈ lw_all := lw_g (lw_at lw_m8 84 rfl) rfl
theorem q1809 : (Jvm.Cond.static ({ cls := "QuorumAlmanacLaw", name := "askRead", desc := "(LQuorumAlmanac;II[J)I" } : Jvm.MethodName)) ∈ lw_all := lw_g (lw_at lw_m8 85 rfl) rfl
theorem q1810 : (Jvm.Cond.codeWith ({ cls := "QuorumAlmanacLaw", name := "askRead", desc := "(LQuorumAlmanac;II[J)I" } : Jvm.MethodName) method_30_code (5 : Nat) (Option.some Jvm.ClassFile.FieldType.int) [((0 : Nat), (10 : Nat), (13 : Nat), (13 : Nat)), ((0 : Nat), (10 : Nat), (17 : Nat), (90 : Nat)), ((0 : Nat), (10 : Nat), (21 : Nat), (15 : Nat))]) ∈ lw_all := lw_g (lw_at lw_m8 86 rfl) rfl
theorem q1811 : (Jvm.Cond.methodLink "QuorumAlmanacLaw" (108 : Nat) ({ cls := "QuorumAlmanac", name := "askRead", desc := "(II)I" } : Jvm.MethodName)) ∈ lw_all := lw_g (lw_at lw_m8 87 rfl) rfl
theorem q1850 : (Jvm.Cond.methodLink "QuorumAlmanacLaw" (243 : Nat) ({ cls := "QuorumAlmanacLaw", name := "readState", desc := "(LQuorumAlmanac;I[J)I" } : Jvm.MethodName)) ∈ lw_all := lw_g (lw_at lw_m8 126 rfl) rfl
theorem q1851 : (Jvm.Cond.static ({ cls := "QuorumAlmanacLaw", name := "readState", desc := "(LQuorumAlmanac;I[J)I" } : Jvm.MethodName)) ∈ lw_all := lw_g (lw_at lw_m8 127 rfl) rfl
theorem q1852 : (Jvm.Cond.codeWith ({ cls := "QuorumAlmanacLaw", name := "readState", desc := "(LQuorumAlmanac;I[J)I" } : Jvm.MethodName) method_31_code (4 : Nat) (Option.some Jvm.ClassFile.FieldType.int) [((0 : Nat), (9 : Nat), (12 : Nat), (39 : Nat))]) ∈ lw_all := lw_g (lw_at lw_m8 128 rfl) rfl
theorem q1853 : (Jvm.Cond.methodLink "QuorumAlmanacLaw" (111 : Nat) ({ cls := "QuorumAlmanac", name := "readState", desc := "(I)C" } : Jvm.MethodName)) ∈ lw_all := lw_g (lw_at lw_m8 129 rfl) rfl
theorem q1861 : (Jvm.Cond.methodLink "QuorumAlmanacLaw" (246 : Nat) ({ cls := "QuorumAlmanacLaw", name := "readValue", desc := "(LQuorumAlmanac;I[J)I" } : Jvm.MethodName)) ∈ lw_all := lw_g (lw_at lw_m8 137 rfl) rfl
theorem q1862 : (Jvm.Cond.static ({ cls := "QuorumAlmanacLaw", name := "readValue", desc := "(LQuorumAlmanac;I[J)I" } : Jvm.MethodName)) ∈ lw_all := lw_g (lw_at lw_m8 138 rfl) rfl
theorem q1863 : (Jvm.Cond.codeWith ({ cls := "QuorumAlmanacLaw", name := "readValue", desc := "(LQuorumAlmanac;I[J)I" } : Jvm.MethodName) method_32_code (4 : Nat) (Option.some Jvm.ClassFile.FieldType.int) [((0 : Nat), (9 : Nat), (12 : Nat), (39 : Nat))]) ∈ lw_all := lw_g (lw_at lw_m8 139 rfl) rfl
theorem q1864 : (Jvm.Cond.methodLink "QuorumAlmanacLaw" (114 : Nat) ({ cls := "QuorumAlmanac", name := "readValue", desc := "(I)I" } : Jvm.MethodName)) ∈ lw_all := lw_g (lw_at lw_m8 140 rfl) rfl
theorem q1868 : (Jvm.Cond.methodLink "QuorumAlmanacLaw" (249 : Nat) ({ cls := "QuorumAlmanacLaw", name := "readStale", desc := "(LQuorumAlmanac;II[J)I" } : Jvm.MethodName)) ∈ lw_all := lw_g (lw_at lw_m8 144 rfl) rfl
theorem q1869 : (Jvm.Cond.static ({ cls := "QuorumAlmanacLaw", name := "readStale", desc := "(LQuorumAlmanac;II[J)I" } : Jvm.MethodName)) ∈ lw_all := lw_g (lw_at lw_m8 145 rfl) rfl
theorem q1870 : (Jvm.Cond.codeWith ({ cls := "QuorumAlmanacLaw", name := "readStale", desc := "(LQuorumAlmanac;II[J)I" } : Jvm.MethodName) method_33_code (5 : Nat) (Option.some Jvm.ClassFile.FieldType.int) [((0 : Nat), (10 : Nat), (13 : Nat), (13 : Nat)), ((0 : Nat), (10 : Nat), (17 : Nat), (90 : Nat)), ((0 : Nat), (10 : Nat), (21 : Nat), (15 : Nat))]) ∈ lw_all := lw_g (lw_at lw_m8 146 rfl) rfl
theorem q1871 : (Jvm.Cond.methodLink "QuorumAlmanacLaw" (117 : Nat) ({ cls := "QuorumAlmanac", name := "readStale", desc := "(II)I" } : Jvm.MethodName)) ∈ lw_all := lw_g (lw_at lw_m8 147 rfl) rfl
theorem q1879 : (Jvm.Cond.methodLink "QuorumAlmanacLaw" (252 : Nat) ({ cls := "QuorumAlmanacLaw", name := "rangeOf", desc := "(LQuorumAlmanac;II[J)I" } : Jvm.MethodName)) ∈ lw_all := lw_g (lw_at lw_m8 155 rfl) rfl
theorem q1880 : (Jvm.Cond.static ({ cls := "QuorumAlmanacLaw", name := "rangeOf", desc := "(LQuorumAlmanac;II[J)I" } : Jvm.MethodName)) ∈ lw_all := lw_g (lw_at lw_m8 156 rfl) rfl
theorem q1881 : (Jvm.Cond.codeWith ({ cls := "QuorumAlmanacLaw", name := "rangeOf", desc := "(LQuorumAlmanac;II[J)I" } : Jvm.MethodName) method_34_code (5 : Nat) (Option.some Jvm.ClassFile.FieldType.int) [((0 : Nat), (10 : Nat), (13 : Nat), (13 : Nat)), ((0 : Nat), (10 : Nat), (17 : Nat), (90 : Nat)), ((0 : Nat), (10 : Nat), (21 : Nat), (15 : Nat))]) ∈ lw_all := lw_g (lw_at lw_m8 157 rfl) rfl
theorem q1882 : (Jvm.Cond.methodLink "QuorumAlmanacLaw" (120 : Nat) ({ cls := "QuorumAlmanac", name := "rangeOf", desc := "(II)I" } : Jvm.MethodName)) ∈ lw_all := lw_g (lw_at lw_m8 158 rfl) rfl
theorem q1887 : (Jvm.Cond.methodLink "QuorumAlmanacLaw" (255 : Nat) ({ cls := "QuorumAlmanacLaw", name := "load", desc := "(LQuorumAlmanac;II[J)I" } : Jvm.MethodName)) ∈ lw_all := lw_g (lw_at lw_m8 163 rfl) rfl
theorem q1888 : (Jvm.Cond.static ({ cls := "QuorumAlmanacLaw", name := "load", desc := "(LQuorumAlmanac;II[J)I" } : Jvm.MethodName)) ∈ lw_all := lw_g (lw_at lw_m8 164 rfl) rfl
theorem q1889 : (Jvm.Cond.codeWith ({ cls := "QuorumAlmanacLaw", name := "load", desc := "(LQuorumAlmanac;II[J)I" } : Jvm.MethodName) method_35_code (5 : Nat) (Option.some Jvm.ClassFile.FieldType.int) [((0 : Nat), (10 : Nat), (13 : Nat), (13 : Nat)), ((0 : Nat), (10 : Nat), (17 : Nat), (90 : Nat)), ((0 : Nat), (10 : Nat), (21 : Nat), (15 : Nat))]) ∈ lw_all := lw_g (lw_at lw_m8 165 rfl) rfl
theorem q1890 : (Jvm.Cond.methodLink "QuorumAlmanacLaw" (123 : Nat) ({ cls := "QuorumAlmanac", name := "load", desc := "(II)I" } : Jvm.MethodName)) ∈ lw_all := lw_g (lw_at lw_m8 166 rfl) rfl
theorem q1894 : (Jvm.Cond.methodLink "QuorumAlmanacLaw" (262 : Nat) ({ cls := "QuorumAlmanacLaw", name := "valueByHistory", desc := "(LQuorumAlmanac;I[J)I" } : Jvm.MethodName)) ∈ lw_all := lw_g (lw_at lw_m8 170 rfl) rfl
theorem q1895 : (Jvm.Cond.static ({ cls := "QuorumAlmanacLaw", name := "valueByHistory", desc := "(LQuorumAlmanac;I[J)I" } : Jvm.MethodName)) ∈ lw_all := lw_g (lw_at lw_m8 171 rfl) rfl
theorem q1896 : (Jvm.Cond.codeWith ({ cls := "QuorumAlmanacLaw", name := "valueByHistory", desc := "(LQuorumAlmanac;I[J)I" } : Jvm.MethodName) method_36_code (4 : Nat) (Option.some Jvm.ClassFile.FieldType.int) [((0 : Nat), (9 : Nat), (12 : Nat), (90 : Nat))]) ∈ lw_all := lw_g (lw_at lw_m8 172 rfl) rfl
theorem q1897 : (Jvm.Cond.methodLink "QuorumAlmanacLaw" (126 : Nat) ({ cls := "QuorumAlmanac", name := "valueByHistory", desc := "(I)I" } : Jvm.MethodName)) ∈ lw_all := lw_g (lw_at lw_m8 173 rfl) rfl
theorem q1904 : (Jvm.Cond.methodLink "QuorumAlmanacLaw" (270 : Nat) ({ cls := "QuorumAlmanacLaw", name := "refusedShare", desc := "(LQuorumAlmanac;[D)I" } : Jvm.MethodName)) ∈ lw_all := lw_g (lw_at lw_m8 180 rfl) rfl
theorem q1905 : (Jvm.Cond.static ({ cls := "QuorumAlmanacLaw", name := "refusedShare", desc := "(LQuorumAlmanac;[D)I" } : Jvm.MethodName)) ∈ lw_all := lw_g (lw_at lw_m8 181 rfl) rfl
theorem q1906 : (Jvm.Cond.codeWith ({ cls := "QuorumAlmanacLaw", name := "refusedShare", desc := "(LQuorumAlmanac;[D)I" } : Jvm.MethodName) method_37_code (3 : Nat) (Option.some Jvm.ClassFile.FieldType.int) [((0 : Nat), (8 : Nat), (11 : Nat), (133 : Nat))]) ∈ lw_all := lw_g (lw_at lw_m8 182 rfl) rfl
theorem q1907 : (Jvm.Cond.classLink "QuorumAlmanacLaw" (133 : Nat) "java/lang/ArithmeticException") ∈ lw_all := lw_g (lw_at lw_m8 183 rfl) rfl
theorem q1921 : (Jvm.Cond.methodLink "QuorumAlmanacLaw" (129 : Nat) ({ cls := "QuorumAlmanac", name := "refusedShare", desc := "()F" } : Jvm.MethodName)) ∈ lw_all := lw_g (lw_at lw_m8 197 rfl) rfl
theorem q1930 : (Jvm.Cond.classLink "QuorumAlmanacLaw" (144 : Nat) "QuorumAlmanacModel") ∈ lw_all := lw_g (lw_at lw_m8 206 rfl) rfl
theorem q1932 : (Jvm.Cond.methodLink "QuorumAlmanacLaw" (146 : Nat) ({ cls := "QuorumAlmanacModel", name := "<init>", desc := "(I)V" } : Jvm.MethodName)) ∈ lw_all := lw_g (lw_at lw_m8 208 rfl) rfl
theorem q2101 : (Jvm.Cond.methodLink "QuorumAlmanacLaw" (151 : Nat) ({ cls := "QuorumAlmanacModel", name := "thrown", desc := "()I" } : Jvm.MethodName)) ∈ lw_all := lw_g (lw_at lw_m9 137 rfl) rfl
theorem q2105 : (Jvm.Cond.methodLink "QuorumAlmanacLaw" (150 : Nat) ({ cls := "QuorumAlmanacModel", name := "tick", desc := "(I)I" } : Jvm.MethodName)) ∈ lw_all := lw_g (lw_at lw_m9 141 rfl) rfl
theorem q2282 : (Jvm.Cond.methodLink "QuorumAlmanacLaw" (156 : Nat) ({ cls := "QuorumAlmanacModel", name := "sync", desc := "(I)I" } : Jvm.MethodName)) ∈ lw_all := lw_g (lw_at lw_m10 78 rfl) rfl
theorem q2338 : (Jvm.Cond.methodLink "QuorumAlmanacLaw" (159 : Nat) ({ cls := "QuorumAlmanacModel", name := "crash", desc := "(I)I" } : Jvm.MethodName)) ∈ lw_all := lw_g (lw_at lw_m10 134 rfl) rfl
theorem q2357 : (Jvm.Cond.methodLink "QuorumAlmanacLaw" (162 : Nat) ({ cls := "QuorumAlmanacModel", name := "start", desc := "(I)I" } : Jvm.MethodName)) ∈ lw_all := lw_g (lw_at lw_m10 153 rfl) rfl
theorem q2362 : (Jvm.Cond.methodLink "QuorumAlmanacLaw" (165 : Nat) ({ cls := "QuorumAlmanacModel", name := "compact", desc := "(I)I" } : Jvm.MethodName)) ∈ lw_all := lw_g (lw_at lw_m10 158 rfl) rfl
theorem q2370 : (Jvm.Cond.methodLink "QuorumAlmanacLaw" (168 : Nat) ({ cls := "QuorumAlmanacModel", name := "role", desc := "(I)C" } : Jvm.MethodName)) ∈ lw_all := lw_g (lw_at lw_m10 166 rfl) rfl
theorem q2374 : (Jvm.Cond.methodLink "QuorumAlmanacLaw" (171 : Nat) ({ cls := "QuorumAlmanacModel", name := "term", desc := "(I)I" } : Jvm.MethodName)) ∈ lw_all := lw_g (lw_at lw_m10 170 rfl) rfl
theorem q2378 : (Jvm.Cond.methodLink "QuorumAlmanacLaw" (174 : Nat) ({ cls := "QuorumAlmanacModel", name := "vote", desc := "(I)I" } : Jvm.MethodName)) ∈ lw_all := lw_g (lw_at lw_m10 174 rfl) rfl
theorem q2382 : (Jvm.Cond.methodLink "QuorumAlmanacLaw" (177 : Nat) ({ cls := "QuorumAlmanacModel", name := "clock", desc := "(I)I" } : Jvm.MethodName)) ∈ lw_all := lw_g (lw_at lw_m10 178 rfl) rfl
theorem q2386 : (Jvm.Cond.methodLink "QuorumAlmanacLaw" (180 : Nat) ({ cls := "QuorumAlmanacModel", name := "last", desc := "(I)I" } : Jvm.MethodName)) ∈ lw_all := lw_g (lw_at lw_m10 182 rfl) rfl
theorem q2391 : (Jvm.Cond.methodLink "QuorumAlmanacLaw" (183 : Nat) ({ cls := "QuorumAlmanacModel", name := "synced", desc := "(I)I" } : Jvm.MethodName)) ∈ lw_all := lw_g (lw_at lw_m10 187 rfl) rfl
theorem q2395 : (Jvm.Cond.methodLink "QuorumAlmanacLaw" (186 : Nat) ({ cls := "QuorumAlmanacModel", name := "committed", desc := "(I)I" } : Jvm.MethodName)) ∈ lw_all := lw_g (lw_at lw_m10 191 rfl) rfl
theorem q2399 : (Jvm.Cond.methodLink "QuorumAlmanacLaw" (189 : Nat) ({ cls := "QuorumAlmanacModel", name := "snapshot", desc := "(I)I" } : Jvm.MethodName)) ∈ lw_all := lw_g (lw_at lw_m10 195 rfl) rfl
theorem q2403 : (Jvm.Cond.methodLink "QuorumAlmanacLaw" (192 : Nat) ({ cls := "QuorumAlmanacModel", name := "members", desc := "(I)I" } : Jvm.MethodName)) ∈ lw_all := lw_g (lw_at lw_m10 199 rfl) rfl
theorem q2408 : (Jvm.Cond.methodLink "QuorumAlmanacLaw" (196 : Nat) ({ cls := "QuorumAlmanacModel", name := "entryTerm", desc := "(II)I" } : Jvm.MethodName)) ∈ lw_all := lw_g (lw_at lw_m10 204 rfl) rfl
theorem q2421 : (Jvm.Cond.methodLink "QuorumAlmanacLaw" (199 : Nat) ({ cls := "QuorumAlmanacModel", name := "entryKind", desc := "(II)C" } : Jvm.MethodName)) ∈ lw_all := lw_g (lw_at lw_m10 217 rfl) rfl
theorem q2425 : (Jvm.Cond.methodLink "QuorumAlmanacLaw" (203 : Nat) ({ cls := "QuorumAlmanacModel", name := "waiting", desc := "()I" } : Jvm.MethodName)) ∈ lw_all := lw_g (lw_at lw_m10 221 rfl) rfl
theorem q2429 : (Jvm.Cond.methodLink "QuorumAlmanacLaw" (207 : Nat) ({ cls := "QuorumAlmanacModel", name := "earliest", desc := "()I" } : Jvm.MethodName)) ∈ lw_all := lw_g (lw_at lw_m10 225 rfl) rfl
theorem q2435 : (Jvm.Cond.methodLink "QuorumAlmanacLaw" (210 : Nat) ({ cls := "QuorumAlmanacModel", name := "kindOf", desc := "(I)C" } : Jvm.MethodName)) ∈ lw_all := lw_g (lw_at lw_m10 231 rfl) rfl
theorem q2448 : (Jvm.Cond.methodLink "QuorumAlmanacLaw" (213 : Nat) ({ cls := "QuorumAlmanacModel", name := "between", desc := "(I)I" } : Jvm.MethodName)) ∈ lw_all := lw_g (lw_at lw_m11 4 rfl) rfl
theorem q2452 : (Jvm.Cond.methodLink "QuorumAlmanacLaw" (216 : Nat) ({ cls := "QuorumAlmanacModel", name := "deliver", desc := "(I)I" } : Jvm.MethodName)) ∈ lw_all := lw_g (lw_at lw_m11 8 rfl) rfl
theorem q2490 : (Jvm.Cond.methodLink "QuorumAlmanacLaw" (219 : Nat) ({ cls := "QuorumAlmanacModel", name := "lose", desc := "(I)I" } : Jvm.MethodName)) ∈ lw_all := lw_g (lw_at lw_m11 46 rfl) rfl
theorem q2494 : (Jvm.Cond.methodLink "QuorumAlmanacLaw" (222 : Nat) ({ cls := "QuorumAlmanacModel", name := "copy", desc := "(I)I" } : Jvm.MethodName)) ∈ lw_all := lw_g (lw_at lw_m11 50 rfl) rfl
theorem q2504 : (Jvm.Cond.methodLink "QuorumAlmanacLaw" (226 : Nat) ({ cls := "QuorumAlmanacModel", name := "write", desc := "(III)I" } : Jvm.MethodName)) ∈ lw_all := lw_g (lw_at lw_m11 60 rfl) rfl
theorem q2519 : (Jvm.Cond.methodLink "QuorumAlmanacLaw" (230 : Nat) ({ cls := "QuorumAlmanacModel", name := "reshape", desc := "(IIZ)I" } : Jvm.MethodName)) ∈ lw_all := lw_g (lw_at lw_m11 75 rfl) rfl
theorem q2523 : (Jvm.Cond.methodLink "QuorumAlmanacLaw" (233 : Nat) ({ cls := "QuorumAlmanacModel", name := "change", desc := "(II)I" } : Jvm.MethodName)) ∈ lw_all := lw_g (lw_at lw_m11 79 rfl) rfl
theorem q2531 : (Jvm.Cond.methodLink "QuorumAlmanacLaw" (236 : Nat) ({ cls := "QuorumAlmanacModel", name := "hasLease", desc := "(I)Z" } : Jvm.MethodName)) ∈ lw_all := lw_g (lw_at lw_m11 87 rfl) rfl
theorem q2536 : (Jvm.Cond.methodLink "QuorumAlmanacLaw" (239 : Nat) ({ cls := "QuorumAlmanacModel", name := "readByLease", desc := "(II)I" } : Jvm.MethodName)) ∈ lw_all := lw_g (lw_at lw_m11 92 rfl) rfl
theorem q2540 : (Jvm.Cond.methodLink "QuorumAlmanacLaw" (242 : Nat) ({ cls := "QuorumAlmanacModel", name := "askRead", desc := "(II)I" } : Jvm.MethodName)) ∈ lw_all := lw_g (lw_at lw_m11 96 rfl) rfl
theorem q2576 : (Jvm.Cond.methodLink "QuorumAlmanacLaw" (245 : Nat) ({ cls := "QuorumAlmanacModel", name := "readState", desc := "(I)C" } : Jvm.MethodName)) ∈ lw_all := lw_g (lw_at lw_m11 132 rfl) rfl
theorem q2580 : (Jvm.Cond.methodLink "QuorumAlmanacLaw" (248 : Nat) ({ cls := "QuorumAlmanacModel", name := "readValue", desc := "(I)I" } : Jvm.MethodName)) ∈ lw_all := lw_g (lw_at lw_m11 136 rfl) rfl
theorem q2584 : (Jvm.Cond.methodLink "QuorumAlmanacLaw" (251 : Nat) ({ cls := "QuorumAlmanacModel", name := "readStale", desc := "(II)I" } : Jvm.MethodName)) ∈ lw_all := lw_g (lw_at lw_m11 140 rfl) rfl
theorem q2592 : (Jvm.Cond.methodLink "QuorumAlmanacLaw" (254 : Nat) ({ cls := "QuorumAlmanacModel", name := "rangeOf", desc := "(II)I" } : Jvm.MethodName)) ∈ lw_all := lw_g (lw_at lw_m11 148 rfl) rfl
theorem q2597 : (Jvm.Cond.methodLink "QuorumAlmanacLaw" (257 : Nat) ({ cls := "QuorumAlmanacModel", name := "load", desc := "(II)I" } : Jvm.MethodName)) ∈ lw_all := lw_g (lw_at lw_m11 153 rfl) rfl
theorem q2601 : (Jvm.Cond.methodLink "QuorumAlmanacLaw" (261 : Nat) ({ cls := "QuorumAlmanacModel", name := "history", desc := "()I" } : Jvm.MethodName)) ∈ lw_all := lw_g (lw_at lw_m11 157 rfl) rfl
theorem q2605 : (Jvm.Cond.methodLink "QuorumAlmanacLaw" (264 : Nat) ({ cls := "QuorumAlmanacModel", name := "valueByHistory", desc := "(I)I" } : Jvm.MethodName)) ∈ lw_all := lw_g (lw_at lw_m11 161 rfl) rfl
theorem q2609 : (Jvm.Cond.methodLink "QuorumAlmanacLaw" (269 : Nat) ({ cls := "QuorumAlmanacModel", name := "delivered", desc := "()J" } : Jvm.MethodName)) ∈ lw_all := lw_g (lw_at lw_m11 165 rfl) rfl
theorem q2613 : (Jvm.Cond.methodLink "QuorumAlmanacLaw" (273 : Nat) ({ cls := "QuorumAlmanacModel", name := "refusedShare", desc := "()F" } : Jvm.MethodName)) ∈ lw_all := lw_g (lw_at lw_m11 169 rfl) rfl
theorem q2617 : (Jvm.Cond.methodLink "QuorumAlmanacLaw" (278 : Nat) ({ cls := "QuorumAlmanacModel", name := "meanLast", desc := "()D" } : Jvm.MethodName)) ∈ lw_all := lw_g (lw_at lw_m11 173 rfl) rfl
theorem q2622 : (Jvm.Cond.methodLink "QuorumAlmanacLaw" (283 : Nat) ({ cls := "QuorumAlmanacModel", name := "isSound", desc := "()Z" } : Jvm.MethodName)) ∈ lw_all := lw_g (lw_at lw_m11 178 rfl) rfl
/-! QuorumAlmanac$Members -/
set_option maxRecDepth 100000
def RX3 : String := "QuorumAlmanac$Members"
def TX3 : u_T := fun k => match k with
  | 0 => ("QuorumAlmanac$Members", "old", "I", true)
  | _ => ("QuorumAlmanac$Members", "now", "I", true)
def tyX3 : Nat → FieldType := fun k => match k with
  | 0 => .int
  | _ => .int
abbrev wsX30 : List Cond := u_ws RX3 TX3 2
theorem nmX3 : ∀ a, a < 2 → ∀ b, b < 2 → a ≠ b → (TX3 a).2.1 ≠ (TX3 b).2.1 := by decide +kernel
theorem tyX3_ok : ∀ k, k < 2 → parseFieldDescriptor (TX3 k).2.2.1 = some (tyX3 k) := by decide +kernel
abbrev cX3_init : ByteArray := prog_7_method_1_code
def yX3_init : MethodName := ⟨RX3, "<init>", "(II)V"⟩
def dkwX3_init_0 : List UInt8 := [42, 183, 0, 1, 42, 27, 181, 0, 7, 42, 28, 181, 0, 13, 177]
abbrev dktX3_init_0 : List UInt8 := dkwX3_init_0 ++ []
theorem dksX3_init_0 : cX3_init.data.toList.drop 0 = dktX3_init_0 := by decide +kernel
theorem dX3_init_0 : decode cX3_init 0 = .ok (.aload_n 0, 1) := dk_42 (dk_at dksX3_init_0 0 rfl rfl)
theorem dX3_init_1 : decode cX3_init 1 = .ok (.invokespecial 1, 3) := dk_183 0 1 (dk_at dksX3_init_0 1 rfl rfl)
theorem dX3_init_4 : decode cX3_init 4 = .ok (.aload_n 0, 1) := dk_42 (dk_at dksX3_init_0 4 rfl rfl)
theorem dX3_init_5 : decode cX3_init 5 = .ok (.iload_n 1, 1) := dk_27 (dk_at dksX3_init_0 5 rfl rfl)
theorem dX3_init_6 : decode cX3_init 6 = .ok (.putfield 7, 3) := dk_181 0 7 (dk_at dksX3_init_0 6 rfl rfl)
theorem dX3_init_9 : decode cX3_init 9 = .ok (.aload_n 0, 1) := dk_42 (dk_at dksX3_init_0 9 rfl rfl)
theorem dX3_init_10 : decode cX3_init 10 = .ok (.iload_n 2, 1) := dk_28 (dk_at dksX3_init_0 10 rfl rfl)
theorem dX3_init_11 : decode cX3_init 11 = .ok (.putfield 13, 3) := dk_181 0 13 (dk_at dksX3_init_0 11 rfl rfl)
theorem dX3_init_14 : decode cX3_init 14 = .ok (.return_, 1) := dk_177 (dk_at dksX3_init_0 14 rfl rfl)
abbrev cX3_all : ByteArray := prog_7_method_2_code
def yX3_all : MethodName := ⟨RX3, "all", "()I"⟩
def dkwX3_all_0 : List UInt8 := [42, 180, 0, 7, 42, 180, 0, 13, 128, 172]
abbrev dktX3_all_0 : List UInt8 := dkwX3_all_0 ++ []
theorem dksX3_all_0 : cX3_all.data.toList.drop 0 = dktX3_all_0 := by decide +kernel
theorem dX3_all_0 : decode cX3_all 0 = .ok (.aload_n 0, 1) := dk_42 (dk_at dksX3_all_0 0 rfl rfl)
theorem dX3_all_1 : decode cX3_all 1 = .ok (.getfield 7, 3) := dk_180 0 7 (dk_at dksX3_all_0 1 rfl rfl)
theorem dX3_all_4 : decode cX3_all 4 = .ok (.aload_n 0, 1) := dk_42 (dk_at dksX3_all_0 4 rfl rfl)
theorem dX3_all_5 : decode cX3_all 5 = .ok (.getfield 13, 3) := dk_180 0 13 (dk_at dksX3_all_0 5 rfl rfl)
theorem dX3_all_8 : decode cX3_all 8 = .ok (.ior, 1) := dk_128 (dk_at dksX3_all_0 8 rfl rfl)
theorem dX3_all_9 : decode cX3_all 9 = .ok (.ireturn, 1) := dk_172 (dk_at dksX3_all_0 9 rfl rfl)
abbrev cX3_isMajority : ByteArray := prog_7_method_5_code
def yX3_isMajority : MethodName := ⟨RX3, "isMajority", "(I)Z"⟩
def dkwX3_isMajority_1 : List UInt8 := [184, 0, 22, 153, 0, 7, 4, 167, 0, 4, 3, 172]
abbrev dktX3_isMajority_1 : List UInt8 := dkwX3_isMajority_1 ++ []
def dkwX3_isMajority_0 : List UInt8 := [42, 180, 0, 13, 27, 184, 0, 22, 153, 0, 25, 42, 180, 0, 7, 153, 0, 14, 42, 180, 0, 7, 27]
abbrev dktX3_isMajority_0 : List UInt8 := dkwX3_isMajority_0 ++ dktX3_isMajority_1
theorem dksX3_isMajority_0 : cX3_isMajority.data.toList.drop 0 = dktX3_isMajority_0 := by decide +kernel
theorem dksX3_isMajority_1 : cX3_isMajority.data.toList.drop 23 = dktX3_isMajority_1 := dk_seg dksX3_isMajority_0 23 rfl rfl
theorem dX3_isMajority_0 : decode cX3_isMajority 0 = .ok (.aload_n 0, 1) := dk_42 (dk_at dksX3_isMajority_0 0 rfl rfl)
theorem dX3_isMajority_1 : decode cX3_isMajority 1 = .ok (.getfield 13, 3) := dk_180 0 13 (dk_at dksX3_isMajority_0 1 rfl rfl)
theorem dX3_isMajority_4 : decode cX3_isMajority 4 = .ok (.iload_n 1, 1) := dk_27 (dk_at dksX3_isMajority_0 4 rfl rfl)
theorem dX3_isMajority_5 : decode cX3_isMajority 5 = .ok (.invokestatic 22, 3) := dk_184 0 22 (dk_at dksX3_isMajority_0 5 rfl rfl)
theorem dX3_isMajority_8 : decode cX3_isMajority 8 = .ok (.ifCond .eq 25, 3) := dk_153 0 25 (dk_at dksX3_isMajority_0 8 rfl rfl)
theorem dX3_isMajority_11 : decode cX3_isMajority 11 = .ok (.aload_n 0, 1) := dk_42 (dk_at dksX3_isMajority_0 11 rfl rfl)
theorem dX3_isMajority_12 : decode cX3_isMajority 12 = .ok (.getfield 7, 3) := dk_180 0 7 (dk_at dksX3_isMajority_0 12 rfl rfl)
theorem dX3_isMajority_15 : decode cX3_isMajority 15 = .ok (.ifCond .eq 14, 3) := dk_153 0 14 (dk_at dksX3_isMajority_0 15 rfl rfl)
theorem dX3_isMajority_18 : decode cX3_isMajority 18 = .ok (.aload_n 0, 1) := dk_42 (dk_at dksX3_isMajority_0 18 rfl rfl)
theorem dX3_isMajority_19 : decode cX3_isMajority 19 = .ok (.getfield 7, 3) := dk_180 0 7 (dk_at dksX3_isMajority_0 19 rfl rfl)
theorem dX3_isMajority_22 : decode cX3_isMajority 22 = .ok (.iload_n 1, 1) := dk_27 (dk_at dksX3_isMajority_0 22 rfl rfl)
theorem dX3_isMajority_23 : decode cX3_isMajority 23 = .ok (.invokestatic 22, 3) := dk_184 0 22 (dk_at dksX3_isMajority_1 0 rfl rfl)
theorem dX3_isMajority_26 : decode cX3_isMajority 26 = .ok (.ifCond .eq 7, 3) := dk_153 0 7 (dk_at dksX3_isMajority_1 3 rfl rfl)
theorem dX3_isMajority_29 : decode cX3_isMajority 29 = .ok (.iconst 1, 1) := dk_4 (dk_at dksX3_isMajority_1 6 rfl rfl)
theorem dX3_isMajority_30 : decode cX3_isMajority 30 = .ok (.goto 4, 3) := dk_167 0 4 (dk_at dksX3_isMajority_1 7 rfl rfl)
theorem dX3_isMajority_33 : decode cX3_isMajority 33 = .ok (.iconst 0, 1) := dk_3 (dk_at dksX3_isMajority_1 10 rfl rfl)
theorem dX3_isMajority_34 : decode cX3_isMajority 34 = .ok (.ireturn, 1) := dk_172 (dk_at dksX3_isMajority_1 11 rfl rfl)
abbrev cX3_isMajority_2 : ByteArray := prog_7_method_4_code
def yX3_isMajority_2 : MethodName := ⟨RX3, "isMajority", "(II)Z"⟩
def dkwX3_isMajority_2_0 : List UInt8 := [5, 26, 27, 126, 184, 0, 16, 104, 26, 184, 0, 16, 164, 0, 7, 4, 167, 0, 4, 3, 172]
abbrev dktX3_isMajority_2_0 : List UInt8 := dkwX3_isMajority_2_0 ++ []
theorem dksX3_isMajority_2_0 : cX3_isMajority_2.data.toList.drop 0 = dktX3_isMajority_2_0 := by decide +kernel
theorem dX3_isMajority_2_0 : decode cX3_isMajority_2 0 = .ok (.iconst 2, 1) := dk_5 (dk_at dksX3_isMajority_2_0 0 rfl rfl)
theorem dX3_isMajority_2_1 : decode cX3_isMajority_2 1 = .ok (.iload_n 0, 1) := dk_26 (dk_at dksX3_isMajority_2_0 1 rfl rfl)
theorem dX3_isMajority_2_2 : decode cX3_isMajority_2 2 = .ok (.iload_n 1, 1) := dk_27 (dk_at dksX3_isMajority_2_0 2 rfl rfl)
theorem dX3_isMajority_2_3 : decode cX3_isMajority_2 3 = .ok (.iand, 1) := dk_126 (dk_at dksX3_isMajority_2_0 3 rfl rfl)
theorem dX3_isMajority_2_4 : decode cX3_isMajority_2 4 = .ok (.invokestatic 16, 3) := dk_184 0 16 (dk_at dksX3_isMajority_2_0 4 rfl rfl)
theorem dX3_isMajority_2_7 : decode cX3_isMajority_2 7 = .ok (.imul, 1) := dk_104 (dk_at dksX3_isMajority_2_0 7 rfl rfl)
theorem dX3_isMajority_2_8 : decode cX3_isMajority_2 8 = .ok (.iload_n 0, 1) := dk_26 (dk_at dksX3_isMajority_2_0 8 rfl rfl)
theorem dX3_isMajority_2_9 : decode cX3_isMajority_2 9 = .ok (.invokestatic 16, 3) := dk_184 0 16 (dk_at dksX3_isMajority_2_0 9 rfl rfl)
theorem dX3_isMajority_2_12 : decode cX3_isMajority_2 12 = .ok (.if_icmp .le 7, 3) := dk_164 0 7 (dk_at dksX3_isMajority_2_0 12 rfl rfl)
theorem dX3_isMajority_2_15 : decode cX3_isMajority_2 15 = .ok (.iconst 1, 1) := dk_4 (dk_at dksX3_isMajority_2_0 15 rfl rfl)
theorem dX3_isMajority_2_16 : decode cX3_isMajority_2 16 = .ok (.goto 4, 3) := dk_167 0 4 (dk_at dksX3_isMajority_2_0 16 rfl rfl)
theorem dX3_isMajority_2_19 : decode cX3_isMajority_2 19 = .ok (.iconst 0, 1) := dk_3 (dk_at dksX3_isMajority_2_0 19 rfl rfl)
theorem dX3_isMajority_2_20 : decode cX3_isMajority_2 20 = .ok (.ireturn, 1) := dk_172 (dk_at dksX3_isMajority_2_0 20 rfl rfl)
abbrev cX3_areTwo : ByteArray := prog_7_method_3_code
def yX3_areTwo : MethodName := ⟨RX3, "areTwo", "()Z"⟩
def dkwX3_areTwo_0 : List UInt8 := [42, 180, 0, 7, 153, 0, 7, 4, 167, 0, 4, 3, 172]
abbrev dktX3_areTwo_0 : List UInt8 := dkwX3_areTwo_0 ++ []
theorem dksX3_areTwo_0 : cX3_areTwo.data.toList.drop 0 = dktX3_areTwo_0 := by decide +kernel
theorem dX3_areTwo_0 : decode cX3_areTwo 0 = .ok (.aload_n 0, 1) := dk_42 (dk_at dksX3_areTwo_0 0 rfl rfl)
theorem dX3_areTwo_1 : decode cX3_areTwo 1 = .ok (.getfield 7, 3) := dk_180 0 7 (dk_at dksX3_areTwo_0 1 rfl rfl)
theorem dX3_areTwo_4 : decode cX3_areTwo 4 = .ok (.ifCond .eq 7, 3) := dk_153 0 7 (dk_at dksX3_areTwo_0 4 rfl rfl)
theorem dX3_areTwo_7 : decode cX3_areTwo 7 = .ok (.iconst 1, 1) := dk_4 (dk_at dksX3_areTwo_0 7 rfl rfl)
theorem dX3_areTwo_8 : decode cX3_areTwo 8 = .ok (.goto 4, 3) := dk_167 0 4 (dk_at dksX3_areTwo_0 8 rfl rfl)
theorem dX3_areTwo_11 : decode cX3_areTwo 11 = .ok (.iconst 0, 1) := dk_3 (dk_at dksX3_areTwo_0 11 rfl rfl)
theorem dX3_areTwo_12 : decode cX3_areTwo 12 = .ok (.ireturn, 1) := dk_172 (dk_at dksX3_areTwo_0 12 rfl rfl)
theorem q51 : (Jvm.Cond.initialized "QuorumAlmanac$Members") ∈ lw_all := lw_g (lw_at lw_m1 7 rfl) rfl
theorem q156 : (Jvm.Cond.instantiable "QuorumAlmanac$Members" (2 : Nat)) ∈ lw_all := lw_g (lw_at lw_m1 112 rfl) rfl
theorem q158 : (Jvm.Cond.instanceMethod ({ cls := "QuorumAlmanac$Members", name := "<init>", desc := "(II)V" } : Jvm.MethodName)) ∈ lw_all := lw_g (lw_at lw_m1 114 rfl) rfl
theorem q159 : (Jvm.Cond.code ({ cls := "QuorumAlmanac$Members", name := "<init>", desc := "(II)V" } : Jvm.MethodName) prog_7_method_1_code (3 : Nat) (Option.none : Option Jvm.ClassFile.FieldType)) ∈ lw_all := lw_g (lw_at lw_m1 115 rfl) rfl
theorem q160 : (Jvm.Cond.methodLink "QuorumAlmanac$Members" (1 : Nat) ({ cls := "java/lang/Object", name := "<init>", desc := "()V" } : Jvm.MethodName)) ∈ lw_all := lw_g (lw_at lw_m1 116 rfl) rfl
theorem q161 : (Jvm.Cond.fieldLink "QuorumAlmanac$Members" (7 : Nat) "QuorumAlmanac$Members" "old" "I") ∈ lw_all := lw_g (lw_at lw_m1 117 rfl) rfl
theorem q162 : (Jvm.Cond.fieldLink "QuorumAlmanac$Members" (13 : Nat) "QuorumAlmanac$Members" "now" "I") ∈ lw_all := lw_g (lw_at lw_m1 118 rfl) rfl
theorem q165 : (Jvm.Cond.laysFinal "QuorumAlmanac$Members" "QuorumAlmanac$Members" "old" "I") ∈ lw_all := lw_g (lw_at lw_m1 121 rfl) rfl
theorem q166 : (Jvm.Cond.soleField "QuorumAlmanac$Members" "old") ∈ lw_all := lw_g (lw_at lw_m1 122 rfl) rfl
theorem q167 : (Jvm.Cond.laysFinal "QuorumAlmanac$Members" "QuorumAlmanac$Members" "now" "I") ∈ lw_all := lw_g (lw_at lw_m1 123 rfl) rfl
theorem q168 : (Jvm.Cond.soleField "QuorumAlmanac$Members" "now") ∈ lw_all := lw_g (lw_at lw_m1 124 rfl) rfl
theorem q169 : (Jvm.Cond.superclass "QuorumAlmanac$Members" "java/lang/Object") ∈ lw_all := lw_g (lw_at lw_m1 125 rfl) rfl
theorem q458 : (Jvm.Cond.selects "QuorumAlmanac$Members" ({ cls := "java/lang/Object", name := "hashCode", desc := "()I" } : Jvm.MethodName) ({ cls := "java/lang/Object", name := "hashCode", desc := "()I" } : Jvm.MethodName)) ∈ lw_all := lw_g (lw_at lw_m2 174 rfl) rfl
theorem q563 : (Jvm.Cond.selects "QuorumAlmanac$Members" ({ cls := "java/lang/Object", name := "getClass", desc := "()Ljava/lang/Class;" } : Jvm.MethodName) ({ cls := "java/lang/Object", name := "getClass", desc := "()Ljava/lang/Class;" } : Jvm.MethodName)) ∈ lw_all := lw_g (lw_at lw_m3 39 rfl) rfl
theorem q642 : (Jvm.Cond.selects "QuorumAlmanac$Members" ({ cls := "java/lang/Object", name := "equals", desc := "(Ljava/lang/Object;)Z" } : Jvm.MethodName) ({ cls := "java/lang/Object", name := "equals", desc := "(Ljava/lang/Object;)Z" } : Jvm.MethodName)) ∈ lw_all := lw_g (lw_at lw_m3 118 rfl) rfl
theorem q982 : (Jvm.Cond.instanceMethod ({ cls := "QuorumAlmanac$Members", name := "all", desc := "()I" } : Jvm.MethodName)) ∈ lw_all := lw_g (lw_at lw_m4 218 rfl) rfl
theorem q983 : (Jvm.Cond.selects "QuorumAlmanac$Members" ({ cls := "QuorumAlmanac$Members", name := "all", desc := "()I" } : Jvm.MethodName) ({ cls := "QuorumAlmanac$Members", name := "all", desc := "()I" } : Jvm.MethodName)) ∈ lw_all := lw_g (lw_at lw_m4 219 rfl) rfl
theorem q984 : (Jvm.Cond.code ({ cls := "QuorumAlmanac$Members", name := "all", desc := "()I" } : Jvm.MethodName) prog_7_method_2_code (1 : Nat) (Option.some Jvm.ClassFile.FieldType.int)) ∈ lw_all := lw_g (lw_at lw_m4 220 rfl) rfl
theorem q1136 : (Jvm.Cond.instanceMethod ({ cls := "QuorumAlmanac$Members", name := "isMajority", desc := "(I)Z" } : Jvm.MethodName)) ∈ lw_all := lw_g (lw_at lw_m5 132 rfl) rfl
theorem q1137 : (Jvm.Cond.selects "QuorumAlmanac$Members" ({ cls := "QuorumAlmanac$Members", name := "isMajority", desc := "(I)Z" } : Jvm.MethodName) ({ cls := "QuorumAlmanac$Members", name := "isMajority", desc := "(I)Z" } : Jvm.MethodName)) ∈ lw_all := lw_g (lw_at lw_m5 133 rfl) rfl
theorem q1138 : (Jvm.Cond.code ({ cls := "QuorumAlmanac$Members", name := "isMajority", desc := "(I)Z" } : Jvm.MethodName) prog_7_method_5_code (2 : Nat) (Option.some Jvm.ClassFile.FieldType.boolean)) ∈ lw_all := lw_g (lw_at lw_m5 134 rfl) rfl
theorem q1139 : (Jvm.Cond.methodLink "QuorumAlmanac$Members" (22 : Nat) ({ cls := "QuorumAlmanac$Members", name := "isMajority", desc := "(II)Z" } : Jvm.MethodName)) ∈ lw_all := lw_g (lw_at lw_m5 135 rfl) rfl
theorem q1140 : (Jvm.Cond.static ({ cls := "QuorumAlmanac$Members", name := "isMajority", desc := "(II)Z" } : Jvm.MethodName)) ∈ lw_all := lw_g (lw_at lw_m5 136 rfl) rfl
theorem q1141 : (Jvm.Cond.code ({ cls := "QuorumAlmanac$Members", name := "isMajority", desc := "(II)Z" } : Jvm.MethodName) prog_7_method_4_code (2 : Nat) (Option.some Jvm.ClassFile.FieldType.boolean)) ∈ lw_all := lw_g (lw_at lw_m5 137 rfl) rfl
theorem q1142 : (Jvm.Cond.methodLink "QuorumAlmanac$Members" (16 : Nat) ({ cls := "java/lang/Integer", name := "bitCount", desc := "(I)I" } : Jvm.MethodName)) ∈ lw_all := lw_g (lw_at lw_m5 138 rfl) rfl
theorem q1320 : (Jvm.Cond.instanceMethod ({ cls := "QuorumAlmanac$Members", name := "areTwo", desc := "()Z" } : Jvm.MethodName)) ∈ lw_all := lw_g (lw_at lw_m6 76 rfl) rfl
theorem q1321 : (Jvm.Cond.selects "QuorumAlmanac$Members" ({ cls := "QuorumAlmanac$Members", name := "areTwo", desc := "()Z" } : Jvm.MethodName) ({ cls := "QuorumAlmanac$Members", name := "areTwo", desc := "()Z" } : Jvm.MethodName)) ∈ lw_all := lw_g (lw_at lw_m6 77 rfl) rfl
theorem q1322 : (Jvm.Cond.code ({ cls := "QuorumAlmanac$Members", name := "areTwo", desc := "()Z" } : Jvm.MethodName) prog_7_method_3_code (1 : Nat) (Option.some Jvm.ClassFile.FieldType.boolean)) ∈ lw_all := lw_g (lw_at lw_m6 78 rfl) rfl
theorem q2642 : (Jvm.Cond.castable "QuorumAlmanac$Members" "java/lang/Object") ∈ lw_tbl := lw_at lw_m11 198 rfl
theorem in_X3 : ∀ w ∈ wsX30, w ∈ lw_all := lw_in wsX30 [165, 167] (by decide +kernel) (by decide +kernel)
/-! QuorumAlmanac$Store -/
set_option maxRecDepth 100000
def RX4 : String := "QuorumAlmanac$Store"
def TX4 : u_T := fun k => match k with
  | 0 => ("QuorumAlmanac$Store", "values", "[I", true)
  | 1 => ("QuorumAlmanac$Store", "begins", "[Z", true)
  | _ => ("QuorumAlmanac$Store", "counts", "[I", true)
def tyX4 : Nat → FieldType := fun k => match k with
  | 0 => .array .int
  | 1 => .array .boolean
  | _ => .array .int
abbrev wsX40 : List Cond := u_ws RX4 TX4 3
theorem nmX4 : ∀ a, a < 3 → ∀ b, b < 3 → a ≠ b → (TX4 a).2.1 ≠ (TX4 b).2.1 := by decide +kernel
theorem tyX4_ok : ∀ k, k < 3 → parseFieldDescriptor (TX4 k).2.2.1 = some (tyX4 k) := by decide +kernel
abbrev cX4_init : ByteArray := prog_15_method_1_code
def yX4_init : MethodName := ⟨RX4, "<init>", "()V"⟩
def dkwX4_init_1 : List UInt8 := [188, 10, 181, 0, 19, 42, 180, 0, 15, 3, 4, 84, 177]
abbrev dktX4_init_1 : List UInt8 := dkwX4_init_1 ++ []
def dkwX4_init_0 : List UInt8 := [42, 183, 0, 3, 42, 16, 20, 188, 10, 181, 0, 9, 42, 16, 20, 188, 4, 181, 0, 15, 42, 16, 20]
abbrev dktX4_init_0 : List UInt8 := dkwX4_init_0 ++ dktX4_init_1
theorem dksX4_init_0 : cX4_init.data.toList.drop 0 = dktX4_init_0 := by decide +kernel
theorem dksX4_init_1 : cX4_init.data.toList.drop 23 = dktX4_init_1 := dk_seg dksX4_init_0 23 rfl rfl
theorem dX4_init_0 : decode cX4_init 0 = .ok (.aload_n 0, 1) := dk_42 (dk_at dksX4_init_0 0 rfl rfl)
theorem dX4_init_1 : decode cX4_init 1 = .ok (.invokespecial 3, 3) := dk_183 0 3 (dk_at dksX4_init_0 1 rfl rfl)
theorem dX4_init_4 : decode cX4_init 4 = .ok (.aload_n 0, 1) := dk_42 (dk_at dksX4_init_0 4 rfl rfl)
theorem dX4_init_5 : decode cX4_init 5 = .ok (.bipush 20, 2) := dk_16 20 (dk_at dksX4_init_0 5 rfl rfl)
theorem dX4_init_7 : decode cX4_init 7 = .ok (.newarray .int, 2) := dk_188_10 (dk_at dksX4_init_0 7 rfl rfl)
theorem dX4_init_9 : decode cX4_init 9 = .ok (.putfield 9, 3) := dk_181 0 9 (dk_at dksX4_init_0 9 rfl rfl)
theorem dX4_init_12 : decode cX4_init 12 = .ok (.aload_n 0, 1) := dk_42 (dk_at dksX4_init_0 12 rfl rfl)
theorem dX4_init_13 : decode cX4_init 13 = .ok (.bipush 20, 2) := dk_16 20 (dk_at dksX4_init_0 13 rfl rfl)
theorem dX4_init_15 : decode cX4_init 15 = .ok (.newarray .boolean, 2) := dk_188_4 (dk_at dksX4_init_0 15 rfl rfl)
theorem dX4_init_17 : decode cX4_init 17 = .ok (.putfield 15, 3) := dk_181 0 15 (dk_at dksX4_init_0 17 rfl rfl)
theorem dX4_init_20 : decode cX4_init 20 = .ok (.aload_n 0, 1) := dk_42 (dk_at dksX4_init_0 20 rfl rfl)
theorem dX4_init_21 : decode cX4_init 21 = .ok (.bipush 20, 2) := dk_16 20 (dk_at dksX4_init_0 21 rfl rfl)
theorem dX4_init_23 : decode cX4_init 23 = .ok (.newarray .int, 2) := dk_188_10 (dk_at dksX4_init_1 0 rfl rfl)
theorem dX4_init_25 : decode cX4_init 25 = .ok (.putfield 19, 3) := dk_181 0 19 (dk_at dksX4_init_1 2 rfl rfl)
theorem dX4_init_28 : decode cX4_init 28 = .ok (.aload_n 0, 1) := dk_42 (dk_at dksX4_init_1 5 rfl rfl)
theorem dX4_init_29 : decode cX4_init 29 = .ok (.getfield 15, 3) := dk_180 0 15 (dk_at dksX4_init_1 6 rfl rfl)
theorem dX4_init_32 : decode cX4_init 32 = .ok (.iconst 0, 1) := dk_3 (dk_at dksX4_init_1 9 rfl rfl)
theorem dX4_init_33 : decode cX4_init 33 = .ok (.iconst 1, 1) := dk_4 (dk_at dksX4_init_1 10 rfl rfl)
theorem dX4_init_34 : decode cX4_init 34 = .ok (.bastore, 1) := dk_84 (dk_at dksX4_init_1 11 rfl rfl)
theorem dX4_init_35 : decode cX4_init 35 = .ok (.return_, 1) := dk_177 (dk_at dksX4_init_1 12 rfl rfl)
abbrev cX4_apply : ByteArray := prog_15_method_4_code
def yX4_apply : MethodName := ⟨RX4, "apply", "(LQuorumAlmanac$Entry;)V"⟩
def dkwX4_apply_6 : List UInt8 := [180, 0, 19, 28, 46, 96, 79, 167, 0, 3, 177]
abbrev dktX4_apply_6 : List UInt8 := dkwX4_apply_6 ++ []
def dkwX4_apply_5 : List UInt8 := [153, 0, 32, 42, 180, 0, 15, 28, 3, 84, 42, 180, 0, 19, 42, 28, 182, 0, 36, 92, 46, 42]
abbrev dktX4_apply_5 : List UInt8 := dkwX4_apply_5 ++ dktX4_apply_6
def dkwX4_apply_4 : List UInt8 := [180, 0, 15, 28, 4, 84, 42, 180, 0, 19, 28, 3, 79, 167, 0, 41, 42, 180, 0, 15, 28, 51]
abbrev dktX4_apply_4 : List UInt8 := dkwX4_apply_4 ++ dktX4_apply_5
def dkwX4_apply_3 : List UInt8 := [167, 0, 78, 42, 180, 0, 15, 28, 51, 154, 0, 69, 42, 180, 0, 19, 42, 28, 182, 0, 36, 3, 79, 42]
abbrev dktX4_apply_3 : List UInt8 := dkwX4_apply_3 ++ dktX4_apply_4
def dkwX4_apply_2 : List UInt8 := [42, 180, 0, 9, 28, 43, 180, 0, 33, 79, 42, 180, 0, 19, 42, 28, 182, 0, 36, 92, 46, 4, 96, 79]
abbrev dktX4_apply_2 : List UInt8 := dkwX4_apply_2 ++ dktX4_apply_3
def dkwX4_apply_1 : List UInt8 := [171, 0, 0, 0, 0, 0, 137, 0, 0, 0, 3, 0, 0, 0, 109, 0, 0, 0, 99, 0, 0, 0, 115, 0, 0, 0, 62, 0, 0, 0, 119, 0, 0, 0, 35]
abbrev dktX4_apply_1 : List UInt8 := dkwX4_apply_1 ++ dktX4_apply_2
def dkwX4_apply_0 : List UInt8 := [43, 180, 0, 23, 61, 43, 180, 0, 29]
abbrev dktX4_apply_0 : List UInt8 := dkwX4_apply_0 ++ dktX4_apply_1
theorem dksX4_apply_0 : cX4_apply.data.toList.drop 0 = dktX4_apply_0 := by decide +kernel
theorem dksX4_apply_1 : cX4_apply.data.toList.drop 9 = dktX4_apply_1 := dk_seg dksX4_apply_0 9 rfl rfl
theorem dksX4_apply_2 : cX4_apply.data.toList.drop 44 = dktX4_apply_2 := dk_seg dksX4_apply_1 35 rfl rfl
theorem dksX4_apply_3 : cX4_apply.data.toList.drop 68 = dktX4_apply_3 := dk_seg dksX4_apply_2 24 rfl rfl
theorem dksX4_apply_4 : cX4_apply.data.toList.drop 92 = dktX4_apply_4 := dk_seg dksX4_apply_3 24 rfl rfl
theorem dksX4_apply_5 : cX4_apply.data.toList.drop 114 = dktX4_apply_5 := dk_seg dksX4_apply_4 22 rfl rfl
theorem dksX4_apply_6 : cX4_apply.data.toList.drop 136 = dktX4_apply_6 := dk_seg dksX4_apply_5 22 rfl rfl
theorem dX4_apply_0 : decode cX4_apply 0 = .ok (.aload_n 1, 1) := dk_43 (dk_at dksX4_apply_0 0 rfl rfl)
theorem dX4_apply_1 : decode cX4_apply 1 = .ok (.getfield 23, 3) := dk_180 0 23 (dk_at dksX4_apply_0 1 rfl rfl)
theorem dX4_apply_4 : decode cX4_apply 4 = .ok (.istore_n 2, 1) := dk_61 (dk_at dksX4_apply_0 4 rfl rfl)
theorem dX4_apply_5 : decode cX4_apply 5 = .ok (.aload_n 1, 1) := dk_43 (dk_at dksX4_apply_0 5 rfl rfl)
theorem dX4_apply_6 : decode cX4_apply 6 = .ok (.getfield 29, 3) := dk_180 0 29 (dk_at dksX4_apply_0 6 rfl rfl)
theorem dX4_apply_9 : decode cX4_apply 9 = .ok (.lookupswitch 137 #[(109, 99), (115, 62), (119, 35)], 35) := by decide +kernel
theorem dX4_apply_44 : decode cX4_apply 44 = .ok (.aload_n 0, 1) := dk_42 (dk_at dksX4_apply_2 0 rfl rfl)
theorem dX4_apply_45 : decode cX4_apply 45 = .ok (.getfield 9, 3) := dk_180 0 9 (dk_at dksX4_apply_2 1 rfl rfl)
theorem dX4_apply_48 : decode cX4_apply 48 = .ok (.iload_n 2, 1) := dk_28 (dk_at dksX4_apply_2 4 rfl rfl)
theorem dX4_apply_49 : decode cX4_apply 49 = .ok (.aload_n 1, 1) := dk_43 (dk_at dksX4_apply_2 5 rfl rfl)
theorem dX4_apply_50 : decode cX4_apply 50 = .ok (.getfield 33, 3) := dk_180 0 33 (dk_at dksX4_apply_2 6 rfl rfl)
theorem dX4_apply_53 : decode cX4_apply 53 = .ok (.iastore, 1) := dk_79 (dk_at dksX4_apply_2 9 rfl rfl)
theorem dX4_apply_54 : decode cX4_apply 54 = .ok (.aload_n 0, 1) := dk_42 (dk_at dksX4_apply_2 10 rfl rfl)
theorem dX4_apply_55 : decode cX4_apply 55 = .ok (.getfield 19, 3) := dk_180 0 19 (dk_at dksX4_apply_2 11 rfl rfl)
theorem dX4_apply_58 : decode cX4_apply 58 = .ok (.aload_n 0, 1) := dk_42 (dk_at dksX4_apply_2 14 rfl rfl)
theorem dX4_apply_59 : decode cX4_apply 59 = .ok (.iload_n 2, 1) := dk_28 (dk_at dksX4_apply_2 15 rfl rfl)
theorem dX4_apply_60 : decode cX4_apply 60 = .ok (.invokevirtual 36, 3) := dk_182 0 36 (dk_at dksX4_apply_2 16 rfl rfl)
theorem dX4_apply_63 : decode cX4_apply 63 = .ok (.dup2, 1) := dk_92 (dk_at dksX4_apply_2 19 rfl rfl)
theorem dX4_apply_64 : decode cX4_apply 64 = .ok (.iaload, 1) := dk_46 (dk_at dksX4_apply_2 20 rfl rfl)
theorem dX4_apply_65 : decode cX4_apply 65 = .ok (.iconst 1, 1) := dk_4 (dk_at dksX4_apply_2 21 rfl rfl)
theorem dX4_apply_66 : decode cX4_apply 66 = .ok (.iadd, 1) := dk_96 (dk_at dksX4_apply_2 22 rfl rfl)
theorem dX4_apply_67 : decode cX4_apply 67 = .ok (.iastore, 1) := dk_79 (dk_at dksX4_apply_2 23 rfl rfl)
theorem dX4_apply_68 : decode cX4_apply 68 = .ok (.goto 78, 3) := dk_167 0 78 (dk_at dksX4_apply_3 0 rfl rfl)
theorem dX4_apply_71 : decode cX4_apply 71 = .ok (.aload_n 0, 1) := dk_42 (dk_at dksX4_apply_3 3 rfl rfl)
theorem dX4_apply_72 : decode cX4_apply 72 = .ok (.getfield 15, 3) := dk_180 0 15 (dk_at dksX4_apply_3 4 rfl rfl)
theorem dX4_apply_75 : decode cX4_apply 75 = .ok (.iload_n 2, 1) := dk_28 (dk_at dksX4_apply_3 7 rfl rfl)
theorem dX4_apply_76 : decode cX4_apply 76 = .ok (.baload, 1) := dk_51 (dk_at dksX4_apply_3 8 rfl rfl)
theorem dX4_apply_77 : decode cX4_apply 77 = .ok (.ifCond .ne 69, 3) := dk_154 0 69 (dk_at dksX4_apply_3 9 rfl rfl)
theorem dX4_apply_80 : decode cX4_apply 80 = .ok (.aload_n 0, 1) := dk_42 (dk_at dksX4_apply_3 12 rfl rfl)
theorem dX4_apply_81 : decode cX4_apply 81 = .ok (.getfield 19, 3) := dk_180 0 19 (dk_at dksX4_apply_3 13 rfl rfl)
theorem dX4_apply_84 : decode cX4_apply 84 = .ok (.aload_n 0, 1) := dk_42 (dk_at dksX4_apply_3 16 rfl rfl)
theorem dX4_apply_85 : decode cX4_apply 85 = .ok (.iload_n 2, 1) := dk_28 (dk_at dksX4_apply_3 17 rfl rfl)
theorem dX4_apply_86 : decode cX4_apply 86 = .ok (.invokevirtual 36, 3) := dk_182 0 36 (dk_at dksX4_apply_3 18 rfl rfl)
theorem dX4_apply_89 : decode cX4_apply 89 = .ok (.iconst 0, 1) := dk_3 (dk_at dksX4_apply_3 21 rfl rfl)
theorem dX4_apply_90 : decode cX4_apply 90 = .ok (.iastore, 1) := dk_79 (dk_at dksX4_apply_3 22 rfl rfl)
theorem dX4_apply_91 : decode cX4_apply 91 = .ok (.aload_n 0, 1) := dk_42 (dk_at dksX4_apply_3 23 rfl rfl)
theorem dX4_apply_92 : decode cX4_apply 92 = .ok (.getfield 15, 3) := dk_180 0 15 (dk_at dksX4_apply_4 0 rfl rfl)
theorem dX4_apply_95 : decode cX4_apply 95 = .ok (.iload_n 2, 1) := dk_28 (dk_at dksX4_apply_4 3 rfl rfl)
theorem dX4_apply_96 : decode cX4_apply 96 = .ok (.iconst 1, 1) := dk_4 (dk_at dksX4_apply_4 4 rfl rfl)
theorem dX4_apply_97 : decode cX4_apply 97 = .ok (.bastore, 1) := dk_84 (dk_at dksX4_apply_4 5 rfl rfl)
theorem dX4_apply_98 : decode cX4_apply 98 = .ok (.aload_n 0, 1) := dk_42 (dk_at dksX4_apply_4 6 rfl rfl)
theorem dX4_apply_99 : decode cX4_apply 99 = .ok (.getfield 19, 3) := dk_180 0 19 (dk_at dksX4_apply_4 7 rfl rfl)
theorem dX4_apply_102 : decode cX4_apply 102 = .ok (.iload_n 2, 1) := dk_28 (dk_at dksX4_apply_4 10 rfl rfl)
theorem dX4_apply_103 : decode cX4_apply 103 = .ok (.iconst 0, 1) := dk_3 (dk_at dksX4_apply_4 11 rfl rfl)
theorem dX4_apply_104 : decode cX4_apply 104 = .ok (.iastore, 1) := dk_79 (dk_at dksX4_apply_4 12 rfl rfl)
theorem dX4_apply_105 : decode cX4_apply 105 = .ok (.goto 41, 3) := dk_167 0 41 (dk_at dksX4_apply_4 13 rfl rfl)
theorem dX4_apply_108 : decode cX4_apply 108 = .ok (.aload_n 0, 1) := dk_42 (dk_at dksX4_apply_4 16 rfl rfl)
theorem dX4_apply_109 : decode cX4_apply 109 = .ok (.getfield 15, 3) := dk_180 0 15 (dk_at dksX4_apply_4 17 rfl rfl)
theorem dX4_apply_112 : decode cX4_apply 112 = .ok (.iload_n 2, 1) := dk_28 (dk_at dksX4_apply_4 20 rfl rfl)
theorem dX4_apply_113 : decode cX4_apply 113 = .ok (.baload, 1) := dk_51 (dk_at dksX4_apply_4 21 rfl rfl)
theorem dX4_apply_114 : decode cX4_apply 114 = .ok (.ifCond .eq 32, 3) := dk_153 0 32 (dk_at dksX4_apply_5 0 rfl rfl)
theorem dX4_apply_117 : decode cX4_apply 117 = .ok (.aload_n 0, 1) := dk_42 (dk_at dksX4_apply_5 3 rfl rfl)
theorem dX4_apply_118 : decode cX4_apply 118 = .ok (.getfield 15, 3) := dk_180 0 15 (dk_at dksX4_apply_5 4 rfl rfl)
theorem dX4_apply_121 : decode cX4_apply 121 = .ok (.iload_n 2, 1) := dk_28 (dk_at dksX4_apply_5 7 rfl rfl)
theorem dX4_apply_122 : decode cX4_apply 122 = .ok (.iconst 0, 1) := dk_3 (dk_at dksX4_apply_5 8 rfl rfl)
theorem dX4_apply_123 : decode cX4_apply 123 = .ok (.bastore, 1) := dk_84 (dk_at dksX4_apply_5 9 rfl rfl)
theorem dX4_apply_124 : decode cX4_apply 124 = .ok (.aload_n 0, 1) := dk_42 (dk_at dksX4_apply_5 10 rfl rfl)
theorem dX4_apply_125 : decode cX4_apply 125 = .ok (.getfield 19, 3) := dk_180 0 19 (dk_at dksX4_apply_5 11 rfl rfl)
theorem dX4_apply_128 : decode cX4_apply 128 = .ok (.aload_n 0, 1) := dk_42 (dk_at dksX4_apply_5 14 rfl rfl)
theorem dX4_apply_129 : decode cX4_apply 129 = .ok (.iload_n 2, 1) := dk_28 (dk_at dksX4_apply_5 15 rfl rfl)
theorem dX4_apply_130 : decode cX4_apply 130 = .ok (.invokevirtual 36, 3) := dk_182 0 36 (dk_at dksX4_apply_5 16 rfl rfl)
theorem dX4_apply_133 : decode cX4_apply 133 = .ok (.dup2, 1) := dk_92 (dk_at dksX4_apply_5 19 rfl rfl)
theorem dX4_apply_134 : decode cX4_apply 134 = .ok (.iaload, 1) := dk_46 (dk_at dksX4_apply_5 20 rfl rfl)
theorem dX4_apply_135 : decode cX4_apply 135 = .ok (.aload_n 0, 1) := dk_42 (dk_at dksX4_apply_5 21 rfl rfl)
theorem dX4_apply_136 : decode cX4_apply 136 = .ok (.getfield 19, 3) := dk_180 0 19 (dk_at dksX4_apply_6 0 rfl rfl)
theorem dX4_apply_139 : decode cX4_apply 139 = .ok (.iload_n 2, 1) := dk_28 (dk_at dksX4_apply_6 3 rfl rfl)
theorem dX4_apply_140 : decode cX4_apply 140 = .ok (.iaload, 1) := dk_46 (dk_at dksX4_apply_6 4 rfl rfl)
theorem dX4_apply_141 : decode cX4_apply 141 = .ok (.iadd, 1) := dk_96 (dk_at dksX4_apply_6 5 rfl rfl)
theorem dX4_apply_142 : decode cX4_apply 142 = .ok (.iastore, 1) := dk_79 (dk_at dksX4_apply_6 6 rfl rfl)
theorem dX4_apply_143 : decode cX4_apply 143 = .ok (.goto 3, 3) := dk_167 0 3 (dk_at dksX4_apply_6 7 rfl rfl)
theorem dX4_apply_146 : decode cX4_apply 146 = .ok (.return_, 1) := dk_177 (dk_at dksX4_apply_6 10 rfl rfl)
abbrev cX4_rangeOf : ByteArray := prog_15_method_3_code
def yX4_rangeOf : MethodName := ⟨RX4, "rangeOf", "(I)I"⟩
def dkwX4_rangeOf_0 : List UInt8 := [27, 61, 42, 180, 0, 15, 28, 51, 154, 0, 9, 132, 2, 255, 167, 255, 244, 28, 172]
abbrev dktX4_rangeOf_0 : List UInt8 := dkwX4_rangeOf_0 ++ []
theorem dksX4_rangeOf_0 : cX4_rangeOf.data.toList.drop 0 = dktX4_rangeOf_0 := by decide +kernel
theorem dX4_rangeOf_0 : decode cX4_rangeOf 0 = .ok (.iload_n 1, 1) := dk_27 (dk_at dksX4_rangeOf_0 0 rfl rfl)
theorem dX4_rangeOf_1 : decode cX4_rangeOf 1 = .ok (.istore_n 2, 1) := dk_61 (dk_at dksX4_rangeOf_0 1 rfl rfl)
theorem dX4_rangeOf_2 : decode cX4_rangeOf 2 = .ok (.aload_n 0, 1) := dk_42 (dk_at dksX4_rangeOf_0 2 rfl rfl)
theorem dX4_rangeOf_3 : decode cX4_rangeOf 3 = .ok (.getfield 15, 3) := dk_180 0 15 (dk_at dksX4_rangeOf_0 3 rfl rfl)
theorem dX4_rangeOf_6 : decode cX4_rangeOf 6 = .ok (.iload_n 2, 1) := dk_28 (dk_at dksX4_rangeOf_0 6 rfl rfl)
theorem dX4_rangeOf_7 : decode cX4_rangeOf 7 = .ok (.baload, 1) := dk_51 (dk_at dksX4_rangeOf_0 7 rfl rfl)
theorem dX4_rangeOf_8 : decode cX4_rangeOf 8 = .ok (.ifCond .ne 9, 3) := dk_154 0 9 (dk_at dksX4_rangeOf_0 8 rfl rfl)
theorem dX4_rangeOf_11 : decode cX4_rangeOf 11 = .ok (.iinc 2 (-1), 3) := dk_132 2 255 (dk_at dksX4_rangeOf_0 11 rfl rfl)
theorem dX4_rangeOf_14 : decode cX4_rangeOf 14 = .ok (.goto (-12), 3) := dk_167 255 244 (dk_at dksX4_rangeOf_0 14 rfl rfl)
theorem dX4_rangeOf_17 : decode cX4_rangeOf 17 = .ok (.iload_n 2, 1) := dk_28 (dk_at dksX4_rangeOf_0 17 rfl rfl)
theorem dX4_rangeOf_18 : decode cX4_rangeOf 18 = .ok (.ireturn, 1) := dk_172 (dk_at dksX4_rangeOf_0 18 rfl rfl)
abbrev cX4_copy : ByteArray := prog_15_method_2_code
def yX4_copy : MethodName := ⟨RX4, "copy", "()LQuorumAlmanac$Store;"⟩
def dkwX4_copy_2 : List UInt8 := [180, 0, 19, 28, 46, 79, 132, 2, 1, 167, 255, 211, 43, 176]
abbrev dktX4_copy_2 : List UInt8 := dkwX4_copy_2 ++ []
def dkwX4_copy_1 : List UInt8 := [180, 0, 9, 28, 46, 79, 43, 180, 0, 15, 28, 42, 180, 0, 15, 28, 51, 84, 43, 180, 0, 19, 28, 42]
abbrev dktX4_copy_1 : List UInt8 := dkwX4_copy_1 ++ dktX4_copy_2
def dkwX4_copy_0 : List UInt8 := [187, 0, 10, 89, 183, 0, 22, 76, 3, 61, 28, 16, 20, 162, 0, 45, 43, 180, 0, 9, 28, 42]
abbrev dktX4_copy_0 : List UInt8 := dkwX4_copy_0 ++ dktX4_copy_1
theorem dksX4_copy_0 : cX4_copy.data.toList.drop 0 = dktX4_copy_0 := by decide +kernel
theorem dksX4_copy_1 : cX4_copy.data.toList.drop 22 = dktX4_copy_1 := dk_seg dksX4_copy_0 22 rfl rfl
theorem dksX4_copy_2 : cX4_copy.data.toList.drop 46 = dktX4_copy_2 := dk_seg dksX4_copy_1 24 rfl rfl
theorem dX4_copy_0 : decode cX4_copy 0 = .ok (.new 10, 3) := dk_187 0 10 (dk_at dksX4_copy_0 0 rfl rfl)
theorem dX4_copy_3 : decode cX4_copy 3 = .ok (.dup, 1) := dk_89 (dk_at dksX4_copy_0 3 rfl rfl)
theorem dX4_copy_4 : decode cX4_copy 4 = .ok (.invokespecial 22, 3) := dk_183 0 22 (dk_at dksX4_copy_0 4 rfl rfl)
theorem dX4_copy_7 : decode cX4_copy 7 = .ok (.astore_n 1, 1) := dk_76 (dk_at dksX4_copy_0 7 rfl rfl)
theorem dX4_copy_8 : decode cX4_copy 8 = .ok (.iconst 0, 1) := dk_3 (dk_at dksX4_copy_0 8 rfl rfl)
theorem dX4_copy_9 : decode cX4_copy 9 = .ok (.istore_n 2, 1) := dk_61 (dk_at dksX4_copy_0 9 rfl rfl)
theorem dX4_copy_10 : decode cX4_copy 10 = .ok (.iload_n 2, 1) := dk_28 (dk_at dksX4_copy_0 10 rfl rfl)
theorem dX4_copy_11 : decode cX4_copy 11 = .ok (.bipush 20, 2) := dk_16 20 (dk_at dksX4_copy_0 11 rfl rfl)
theorem dX4_copy_13 : decode cX4_copy 13 = .ok (.if_icmp .ge 45, 3) := dk_162 0 45 (dk_at dksX4_copy_0 13 rfl rfl)
theorem dX4_copy_16 : decode cX4_copy 16 = .ok (.aload_n 1, 1) := dk_43 (dk_at dksX4_copy_0 16 rfl rfl)
theorem dX4_copy_17 : decode cX4_copy 17 = .ok (.getfield 9, 3) := dk_180 0 9 (dk_at dksX4_copy_0 17 rfl rfl)
theorem dX4_copy_20 : decode cX4_copy 20 = .ok (.iload_n 2, 1) := dk_28 (dk_at dksX4_copy_0 20 rfl rfl)
theorem dX4_copy_21 : decode cX4_copy 21 = .ok (.aload_n 0, 1) := dk_42 (dk_at dksX4_copy_0 21 rfl rfl)
theorem dX4_copy_22 : decode cX4_copy 22 = .ok (.getfield 9, 3) := dk_180 0 9 (dk_at dksX4_copy_1 0 rfl rfl)
theorem dX4_copy_25 : decode cX4_copy 25 = .ok (.iload_n 2, 1) := dk_28 (dk_at dksX4_copy_1 3 rfl rfl)
theorem dX4_copy_26 : decode cX4_copy 26 = .ok (.iaload, 1) := dk_46 (dk_at dksX4_copy_1 4 rfl rfl)
theorem dX4_copy_27 : decode cX4_copy 27 = .ok (.iastore, 1) := dk_79 (dk_at dksX4_copy_1 5 rfl rfl)
theorem dX4_copy_28 : decode cX4_copy 28 = .ok (.aload_n 1, 1) := dk_43 (dk_at dksX4_copy_1 6 rfl rfl)
theorem dX4_copy_29 : decode cX4_copy 29 = .ok (.getfield 15, 3) := dk_180 0 15 (dk_at dksX4_copy_1 7 rfl rfl)
theorem dX4_copy_32 : decode cX4_copy 32 = .ok (.iload_n 2, 1) := dk_28 (dk_at dksX4_copy_1 10 rfl rfl)
theorem dX4_copy_33 : decode cX4_copy 33 = .ok (.aload_n 0, 1) := dk_42 (dk_at dksX4_copy_1 11 rfl rfl)
theorem dX4_copy_34 : decode cX4_copy 34 = .ok (.getfield 15, 3) := dk_180 0 15 (dk_at dksX4_copy_1 12 rfl rfl)
theorem dX4_copy_37 : decode cX4_copy 37 = .ok (.iload_n 2, 1) := dk_28 (dk_at dksX4_copy_1 15 rfl rfl)
theorem dX4_copy_38 : decode cX4_copy 38 = .ok (.baload, 1) := dk_51 (dk_at dksX4_copy_1 16 rfl rfl)
theorem dX4_copy_39 : decode cX4_copy 39 = .ok (.bastore, 1) := dk_84 (dk_at dksX4_copy_1 17 rfl rfl)
theorem dX4_copy_40 : decode cX4_copy 40 = .ok (.aload_n 1, 1) := dk_43 (dk_at dksX4_copy_1 18 rfl rfl)
theorem dX4_copy_41 : decode cX4_copy 41 = .ok (.getfield 19, 3) := dk_180 0 19 (dk_at dksX4_copy_1 19 rfl rfl)
theorem dX4_copy_44 : decode cX4_copy 44 = .ok (.iload_n 2, 1) := dk_28 (dk_at dksX4_copy_1 22 rfl rfl)
theorem dX4_copy_45 : decode cX4_copy 45 = .ok (.aload_n 0, 1) := dk_42 (dk_at dksX4_copy_1 23 rfl rfl)
theorem dX4_copy_46 : decode cX4_copy 46 = .ok (.getfield 19, 3) := dk_180 0 19 (dk_at dksX4_copy_2 0 rfl rfl)
theorem dX4_copy_49 : decode cX4_copy 49 = .ok (.iload_n 2, 1) := dk_28 (dk_at dksX4_copy_2 3 rfl rfl)
theorem dX4_copy_50 : decode cX4_copy 50 = .ok (.iaload, 1) := dk_46 (dk_at dksX4_copy_2 4 rfl rfl)
theorem dX4_copy_51 : decode cX4_copy 51 = .ok (.iastore, 1) := dk_79 (dk_at dksX4_copy_2 5 rfl rfl)
theorem dX4_copy_52 : decode cX4_copy 52 = .ok (.iinc 2 1, 3) := dk_132 2 1 (dk_at dksX4_copy_2 6 rfl rfl)
theorem dX4_copy_55 : decode cX4_copy 55 = .ok (.goto (-45), 3) := dk_167 255 211 (dk_at dksX4_copy_2 9 rfl rfl)
theorem dX4_copy_58 : decode cX4_copy 58 = .ok (.aload_n 1, 1) := dk_43 (dk_at dksX4_copy_2 12 rfl rfl)
theorem dX4_copy_59 : decode cX4_copy 59 = .ok (.areturn, 1) := dk_176 (dk_at dksX4_copy_2 13 rfl rfl)
theorem q52 : (Jvm.Cond.initialized "QuorumAlmanac$Store") ∈ lw_all := lw_g (lw_at lw_m1 8 rfl) rfl
theorem q177 : (Jvm.Cond.instantiable "QuorumAlmanac$Store" (3 : Nat)) ∈ lw_all := lw_g (lw_at lw_m1 133 rfl) rfl
theorem q179 : (Jvm.Cond.instanceMethod ({ cls := "QuorumAlmanac$Store", name := "<init>", desc := "()V" } : Jvm.MethodName)) ∈ lw_all := lw_g (lw_at lw_m1 135 rfl) rfl
theorem q180 : (Jvm.Cond.code ({ cls := "QuorumAlmanac$Store", name := "<init>", desc := "()V" } : Jvm.MethodName) prog_15_method_1_code (1 : Nat) (Option.none : Option Jvm.ClassFile.FieldType)) ∈ lw_all := lw_g (lw_at lw_m1 136 rfl) rfl
theorem q181 : (Jvm.Cond.methodLink "QuorumAlmanac$Store" (3 : Nat) ({ cls := "java/lang/Object", name := "<init>", desc := "()V" } : Jvm.MethodName)) ∈ lw_all := lw_g (lw_at lw_m1 137 rfl) rfl
theorem q182 : (Jvm.Cond.fieldLink "QuorumAlmanac$Store" (9 : Nat) "QuorumAlmanac$Store" "values" "[I") ∈ lw_all := lw_g (lw_at lw_m1 138 rfl) rfl
theorem q185 : (Jvm.Cond.fieldLink "QuorumAlmanac$Store" (15 : Nat) "QuorumAlmanac$Store" "begins" "[Z") ∈ lw_all := lw_g (lw_at lw_m1 141 rfl) rfl
theorem q186 : (Jvm.Cond.fieldLink "QuorumAlmanac$Store" (19 : Nat) "QuorumAlmanac$Store" "counts" "[I") ∈ lw_all := lw_g (lw_at lw_m1 142 rfl) rfl
theorem q188 : (Jvm.Cond.laysFinal "QuorumAlmanac$Store" "QuorumAlmanac$Store" "values" "[I") ∈ lw_all := lw_g (lw_at lw_m1 144 rfl) rfl
theorem q189 : (Jvm.Cond.soleField "QuorumAlmanac$Store" "values") ∈ lw_all := lw_g (lw_at lw_m1 145 rfl) rfl
theorem q190 : (Jvm.Cond.laysFinal "QuorumAlmanac$Store" "QuorumAlmanac$Store" "begins" "[Z") ∈ lw_all := lw_g (lw_at lw_m1 146 rfl) rfl
theorem q191 : (Jvm.Cond.soleField "QuorumAlmanac$Store" "begins") ∈ lw_all := lw_g (lw_at lw_m1 147 rfl) rfl
theorem q192 : (Jvm.Cond.laysFinal "QuorumAlmanac$Store" "QuorumAlmanac$Store" "counts" "[I") ∈ lw_all := lw_g (lw_at lw_m1 148 rfl) rfl
theorem q193 : (Jvm.Cond.soleField "QuorumAlmanac$Store" "counts") ∈ lw_all := lw_g (lw_at lw_m1 149 rfl) rfl
theorem q194 : (Jvm.Cond.superclass "QuorumAlmanac$Store" "java/lang/Object") ∈ lw_all := lw_g (lw_at lw_m1 150 rfl) rfl
theorem q467 : (Jvm.Cond.selects "QuorumAlmanac$Store" ({ cls := "java/lang/Object", name := "hashCode", desc := "()I" } : Jvm.MethodName) ({ cls := "java/lang/Object", name := "hashCode", desc := "()I" } : Jvm.MethodName)) ∈ lw_all := lw_g (lw_at lw_m2 183 rfl) rfl
theorem q569 : (Jvm.Cond.selects "QuorumAlmanac$Store" ({ cls := "java/lang/Object", name := "getClass", desc := "()Ljava/lang/Class;" } : Jvm.MethodName) ({ cls := "java/lang/Object", name := "getClass", desc := "()Ljava/lang/Class;" } : Jvm.MethodName)) ∈ lw_all := lw_g (lw_at lw_m3 45 rfl) rfl
theorem q651 : (Jvm.Cond.selects "QuorumAlmanac$Store" ({ cls := "java/lang/Object", name := "equals", desc := "(Ljava/lang/Object;)Z" } : Jvm.MethodName) ({ cls := "java/lang/Object", name := "equals", desc := "(Ljava/lang/Object;)Z" } : Jvm.MethodName)) ∈ lw_all := lw_g (lw_at lw_m3 127 rfl) rfl
theorem q1262 : (Jvm.Cond.fieldLink "QuorumAlmanac$Store" (29 : Nat) "QuorumAlmanac$Entry" "kind" "C") ∈ lw_all := lw_g (lw_at lw_m6 18 rfl) rfl
theorem q1266 : (Jvm.Cond.fieldLink "QuorumAlmanac$Store" (23 : Nat) "QuorumAlmanac$Entry" "first" "I") ∈ lw_all := lw_g (lw_at lw_m6 22 rfl) rfl
theorem q1269 : (Jvm.Cond.fieldLink "QuorumAlmanac$Store" (33 : Nat) "QuorumAlmanac$Entry" "second" "I") ∈ lw_all := lw_g (lw_at lw_m6 25 rfl) rfl
theorem q1304 : (Jvm.Cond.instanceMethod ({ cls := "QuorumAlmanac$Store", name := "apply", desc := "(LQuorumAlmanac$Entry;)V" } : Jvm.MethodName)) ∈ lw_all := lw_g (lw_at lw_m6 60 rfl) rfl
theorem q1305 : (Jvm.Cond.selects "QuorumAlmanac$Store" ({ cls := "QuorumAlmanac$Store", name := "apply", desc := "(LQuorumAlmanac$Entry;)V" } : Jvm.MethodName) ({ cls := "QuorumAlmanac$Store", name := "apply", desc := "(LQuorumAlmanac$Entry;)V" } : Jvm.MethodName)) ∈ lw_all := lw_g (lw_at lw_m6 61 rfl) rfl
theorem q1306 : (Jvm.Cond.code ({ cls := "QuorumAlmanac$Store", name := "apply", desc := "(LQuorumAlmanac$Entry;)V" } : Jvm.MethodName) prog_15_method_4_code (3 : Nat) (Option.none : Option Jvm.ClassFile.FieldType)) ∈ lw_all := lw_g (lw_at lw_m6 62 rfl) rfl
theorem q1307 : (Jvm.Cond.methodLink "QuorumAlmanac$Store" (36 : Nat) ({ cls := "QuorumAlmanac$Store", name := "rangeOf", desc := "(I)I" } : Jvm.MethodName)) ∈ lw_all := lw_g (lw_at lw_m6 63 rfl) rfl
theorem q1308 : (Jvm.Cond.instanceMethod ({ cls := "QuorumAlmanac$Store", name := "rangeOf", desc := "(I)I" } : Jvm.MethodName)) ∈ lw_all := lw_g (lw_at lw_m6 64 rfl) rfl
theorem q1309 : (Jvm.Cond.selects "QuorumAlmanac$Store" ({ cls := "QuorumAlmanac$Store", name := "rangeOf", desc := "(I)I" } : Jvm.MethodName) ({ cls := "QuorumAlmanac$Store", name := "rangeOf", desc := "(I)I" } : Jvm.MethodName)) ∈ lw_all := lw_g (lw_at lw_m6 65 rfl) rfl
theorem q1310 : (Jvm.Cond.code ({ cls := "QuorumAlmanac$Store", name := "rangeOf", desc := "(I)I" } : Jvm.MethodName) prog_15_method_3_code (3 : Nat) (Option.some Jvm.ClassFile.FieldType.int)) ∈ lw_all := lw_g (lw_at lw_m6 66 rfl) rfl
theorem q1361 : (Jvm.Cond.instanceMethod ({ cls := "QuorumAlmanac$Store", name := "copy", desc := "()LQuorumAlmanac$Store;" } : Jvm.MethodName)) ∈ lw_all := lw_g (lw_at lw_m6 117 rfl) rfl
theorem q1362 : (Jvm.Cond.selects "QuorumAlmanac$Store" ({ cls := "QuorumAlmanac$Store", name := "copy", desc := "()LQuorumAlmanac$Store;" } : Jvm.MethodName) ({ cls := "QuorumAlmanac$Store", name := "copy", desc := "()LQuorumAlmanac$Store;" } : Jvm.MethodName)) ∈ lw_all := lw_g (lw_at lw_m6 118 rfl) rfl
theorem q1363 : (Jvm.Cond.code ({ cls := "QuorumAlmanac$Store", name := "copy", desc := "()LQuorumAlmanac$Store;" } : Jvm.MethodName) prog_15_method_2_code (3 : Nat) (Option.some (Jvm.ClassFile.FieldType.object "QuorumAlmanac$Store"))) ∈ lw_all := lw_g (lw_at lw_m6 119 rfl) rfl
theorem q1364 : (Jvm.Cond.classLink "QuorumAlmanac$Store" (10 : Nat) "QuorumAlmanac$Store") ∈ lw_all := lw_g (lw_at lw_m6 120 rfl) rfl
theorem q1365 : (Jvm.Cond.methodLink "QuorumAlmanac$Store" (22 : Nat) ({ cls := "QuorumAlmanac$Store", name := "<init>", desc := "()V" } : Jvm.MethodName)) ∈ lw_all := lw_g (lw_at lw_m6 121 rfl) rfl
theorem q2643 : (Jvm.Cond.castable "QuorumAlmanac$Store" "java/lang/Object") ∈ lw_tbl := lw_at lw_m11 199 rfl
theorem in_X4 : ∀ w ∈ wsX40, w ∈ lw_all := lw_in wsX40 [188, 190, 192] (by decide +kernel) (by decide +kernel)
/-! QuorumAlmanac$Snapshot -/
set_option maxRecDepth 100000
def RX5 : String := "QuorumAlmanac$Snapshot"
def TX5 : u_T := fun k => match k with
  | 0 => ("QuorumAlmanac$Snapshot", "index", "I", true)
  | 1 => ("QuorumAlmanac$Snapshot", "term", "I", true)
  | 2 => ("QuorumAlmanac$Snapshot", "members", "LQuorumAlmanac$Members;", true)
  | _ => ("QuorumAlmanac$Snapshot", "store", "LQuorumAlmanac$Store;", true)
def tyX5 : Nat → FieldType := fun k => match k with
  | 0 => .int
  | 1 => .int
  | 2 => .object "QuorumAlmanac$Members"
  | _ => .object "QuorumAlmanac$Store"
abbrev wsX50 : List Cond := u_ws RX5 TX5 4
theorem nmX5 : ∀ a, a < 4 → ∀ b, b < 4 → a ≠ b → (TX5 a).2.1 ≠ (TX5 b).2.1 := by decide +kernel
theorem tyX5_ok : ∀ k, k < 4 → parseFieldDescriptor (TX5 k).2.2.1 = some (tyX5 k) := by decide +kernel
abbrev cX5_init : ByteArray := prog_14_method_1_code
def yX5_init : MethodName := ⟨RX5, "<init>", "(IILQuorumAlmanac$Members;LQuorumAlmanac$Store;)V"⟩
def dkwX5_init_1 : List UInt8 := [181, 0, 20, 177]
abbrev dktX5_init_1 : List UInt8 := dkwX5_init_1 ++ []
def dkwX5_init_0 : List UInt8 := [42, 183, 0, 1, 42, 27, 181, 0, 7, 42, 28, 181, 0, 13, 42, 45, 181, 0, 16, 42, 25, 4]
abbrev dktX5_init_0 : List UInt8 := dkwX5_init_0 ++ dktX5_init_1
theorem dksX5_init_0 : cX5_init.data.toList.drop 0 = dktX5_init_0 := by decide +kernel
theorem dksX5_init_1 : cX5_init.data.toList.drop 22 = dktX5_init_1 := dk_seg dksX5_init_0 22 rfl rfl
theorem dX5_init_0 : decode cX5_init 0 = .ok (.aload_n 0, 1) := dk_42 (dk_at dksX5_init_0 0 rfl rfl)
theorem dX5_init_1 : decode cX5_init 1 = .ok (.invokespecial 1, 3) := dk_183 0 1 (dk_at dksX5_init_0 1 rfl rfl)
theorem dX5_init_4 : decode cX5_init 4 = .ok (.aload_n 0, 1) := dk_42 (dk_at dksX5_init_0 4 rfl rfl)
theorem dX5_init_5 : decode cX5_init 5 = .ok (.iload_n 1, 1) := dk_27 (dk_at dksX5_init_0 5 rfl rfl)
theorem dX5_init_6 : decode cX5_init 6 = .ok (.putfield 7, 3) := dk_181 0 7 (dk_at dksX5_init_0 6 rfl rfl)
theorem dX5_init_9 : decode cX5_init 9 = .ok (.aload_n 0, 1) := dk_42 (dk_at dksX5_init_0 9 rfl rfl)
theorem dX5_init_10 : decode cX5_init 10 = .ok (.iload_n 2, 1) := dk_28 (dk_at dksX5_init_0 10 rfl rfl)
theorem dX5_init_11 : decode cX5_init 11 = .ok (.putfield 13, 3) := dk_181 0 13 (dk_at dksX5_init_0 11 rfl rfl)
theorem dX5_init_14 : decode cX5_init 14 = .ok (.aload_n 0, 1) := dk_42 (dk_at dksX5_init_0 14 rfl rfl)
theorem dX5_init_15 : decode cX5_init 15 = .ok (.aload_n 3, 1) := dk_45 (dk_at dksX5_init_0 15 rfl rfl)
theorem dX5_init_16 : decode cX5_init 16 = .ok (.putfield 16, 3) := dk_181 0 16 (dk_at dksX5_init_0 16 rfl rfl)
theorem dX5_init_19 : decode cX5_init 19 = .ok (.aload_n 0, 1) := dk_42 (dk_at dksX5_init_0 19 rfl rfl)
theorem dX5_init_20 : decode cX5_init 20 = .ok (.aload 4, 2) := dk_25 4 (dk_at dksX5_init_0 20 rfl rfl)
theorem dX5_init_22 : decode cX5_init 22 = .ok (.putfield 20, 3) := dk_181 0 20 (dk_at dksX5_init_1 0 rfl rfl)
theorem dX5_init_25 : decode cX5_init 25 = .ok (.return_, 1) := dk_177 (dk_at dksX5_init_1 3 rfl rfl)
theorem q53 : (Jvm.Cond.initialized "QuorumAlmanac$Snapshot") ∈ lw_all := lw_g (lw_at lw_m1 9 rfl) rfl
theorem q198 : (Jvm.Cond.instantiable "QuorumAlmanac$Snapshot" (4 : Nat)) ∈ lw_all := lw_g (lw_at lw_m1 154 rfl) rfl
theorem q200 : (Jvm.Cond.instanceMethod ({ cls := "QuorumAlmanac$Snapshot", name := "<init>", desc := "(IILQuorumAlmanac$Members;LQuorumAlmanac$Store;)V" } : Jvm.MethodName)) ∈ lw_all := lw_g (lw_at lw_m1 156 rfl) rfl
theorem q201 : (Jvm.Cond.code ({ cls := "QuorumAlmanac$Snapshot", name := "<init>", desc := "(IILQuorumAlmanac$Members;LQuorumAlmanac$Store;)V" } : Jvm.MethodName) prog_14_method_1_code (5 : Nat) (Option.none : Option Jvm.ClassFile.FieldType)) ∈ lw_all := lw_g (lw_at lw_m1 157 rfl) rfl
theorem q202 : (Jvm.Cond.methodLink "QuorumAlmanac$Snapshot" (1 : Nat) ({ cls := "java/lang/Object", name := "<init>", desc := "()V" } : Jvm.MethodName)) ∈ lw_all := lw_g (lw_at lw_m1 158 rfl) rfl
theorem q203 : (Jvm.Cond.fieldLink "QuorumAlmanac$Snapshot" (7 : Nat) "QuorumAlmanac$Snapshot" "index" "I") ∈ lw_all := lw_g (lw_at lw_m1 159 rfl) rfl
theorem q206 : (Jvm.Cond.fieldLink "QuorumAlmanac$Snapshot" (13 : Nat) "QuorumAlmanac$Snapshot" "term" "I") ∈ lw_all := lw_g (lw_at lw_m1 162 rfl) rfl
theorem q208 : (Jvm.Cond.fieldLink "QuorumAlmanac$Snapshot" (16 : Nat) "QuorumAlmanac$Snapshot" "members" "LQuorumAlmanac$Members;") ∈ lw_all := lw_g (lw_at lw_m1 164 rfl) rfl
theorem q210 : (Jvm.Cond.fieldLink "QuorumAlmanac$Snapshot" (20 : Nat) "QuorumAlmanac$Snapshot" "store" "LQuorumAlmanac$Store;") ∈ lw_all := lw_g (lw_at lw_m1 166 rfl) rfl
theorem q212 : (Jvm.Cond.laysFinal "QuorumAlmanac$Snapshot" "QuorumAlmanac$Snapshot" "index" "I") ∈ lw_all := lw_g (lw_at lw_m1 168 rfl) rfl
theorem q213 : (Jvm.Cond.soleField "QuorumAlmanac$Snapshot" "index") ∈ lw_all := lw_g (lw_at lw_m1 169 rfl) rfl
theorem q214 : (Jvm.Cond.laysFinal "QuorumAlmanac$Snapshot" "QuorumAlmanac$Snapshot" "term" "I") ∈ lw_all := lw_g (lw_at lw_m1 170 rfl) rfl
theorem q215 : (Jvm.Cond.soleField "QuorumAlmanac$Snapshot" "term") ∈ lw_all := lw_g (lw_at lw_m1 171 rfl) rfl
theorem q216 : (Jvm.Cond.laysFinal "QuorumAlmanac$Snapshot" "QuorumAlmanac$Snapshot" "members" "LQuorumAlmanac$Members;") ∈ lw_all := lw_g (lw_at lw_m1 172 rfl) rfl
theorem q217 : (Jvm.Cond.soleField "QuorumAlmanac$Snapshot" "members") ∈ lw_all := lw_g (lw_at lw_m1 173 rfl) rfl
theorem q218 : (Jvm.Cond.laysFinal "QuorumAlmanac$Snapshot" "QuorumAlmanac$Snapshot" "store" "LQuorumAlmanac$Store;") ∈ lw_all := lw_g (lw_at lw_m1 174 rfl) rfl
theorem q219 : (Jvm.Cond.soleField "QuorumAlmanac$Snapshot" "store") ∈ lw_all := lw_g (lw_at lw_m1 175 rfl) rfl
theorem q220 : (Jvm.Cond.superclass "QuorumAlmanac$Snapshot" "java/lang/Object") ∈ lw_all := lw_g (lw_at lw_m1 176 rfl) rfl
theorem q466 : (Jvm.Cond.selects "QuorumAlmanac$Snapshot" ({ cls := "java/lang/Object", name := "hashCode", desc := "()I" } : Jvm.MethodName) ({ cls := "java/lang/Object", name := "hashCode", desc := "()I" } : Jvm.MethodName)) ∈ lw_all := lw_g (lw_at lw_m2 182 rfl) rfl
theorem q568 : (Jvm.Cond.selects "QuorumAlmanac$Snapshot" ({ cls := "java/lang/Object", name := "getClass", desc := "()Ljava/lang/Class;" } : Jvm.MethodName) ({ cls := "java/lang/Object", name := "getClass", desc := "()Ljava/lang/Class;" } : Jvm.MethodName)) ∈ lw_all := lw_g (lw_at lw_m3 44 rfl) rfl
theorem q650 : (Jvm.Cond.selects "QuorumAlmanac$Snapshot" ({ cls := "java/lang/Object", name := "equals", desc := "(Ljava/lang/Object;)Z" } : Jvm.MethodName) ({ cls := "java/lang/Object", name := "equals", desc := "(Ljava/lang/Object;)Z" } : Jvm.MethodName)) ∈ lw_all := lw_g (lw_at lw_m3 126 rfl) rfl
theorem q2644 : (Jvm.Cond.castable "QuorumAlmanac$Snapshot" "java/lang/Object") ∈ lw_tbl := lw_at lw_m11 200 rfl
theorem in_X5 : ∀ w ∈ wsX50, w ∈ lw_all := lw_in wsX50 [212, 214, 216, 218] (by decide +kernel) (by decide +kernel)
/-! QuorumAlmanac$Message -/
set_option maxRecDepth 100000
def RX10 : String := "QuorumAlmanac$Message"
abbrev cX10_init : ByteArray := prog_8_method_1_code
def yX10_init : MethodName := ⟨RX10, "<init>", "(IIII)V"⟩
def dkwX10_init_1 : List UInt8 := [181, 0, 19, 177]
abbrev dktX10_init_1 : List UInt8 := dkwX10_init_1 ++ []
def dkwX10_init_0 : List UInt8 := [42, 183, 0, 1, 42, 27, 181, 0, 7, 42, 28, 181, 0, 13, 42, 29, 181, 0, 16, 42, 21, 4]
abbrev dktX10_init_0 : List UInt8 := dkwX10_init_0 ++ dktX10_init_1
theorem dksX10_init_0 : cX10_init.data.toList.drop 0 = dktX10_init_0 := by decide +kernel
theorem dksX10_init_1 : cX10_init.data.toList.drop 22 = dktX10_init_1 := dk_seg dksX10_init_0 22 rfl rfl
theorem dX10_init_0 : decode cX10_init 0 = .ok (.aload_n 0, 1) := dk_42 (dk_at dksX10_init_0 0 rfl rfl)
theorem dX10_init_1 : decode cX10_init 1 = .ok (.invokespecial 1, 3) := dk_183 0 1 (dk_at dksX10_init_0 1 rfl rfl)
theorem dX10_init_4 : decode cX10_init 4 = .ok (.aload_n 0, 1) := dk_42 (dk_at dksX10_init_0 4 rfl rfl)
theorem dX10_init_5 : decode cX10_init 5 = .ok (.iload_n 1, 1) := dk_27 (dk_at dksX10_init_0 5 rfl rfl)
theorem dX10_init_6 : decode cX10_init 6 = .ok (.putfield 7, 3) := dk_181 0 7 (dk_at dksX10_init_0 6 rfl rfl)
theorem dX10_init_9 : decode cX10_init 9 = .ok (.aload_n 0, 1) := dk_42 (dk_at dksX10_init_0 9 rfl rfl)
theorem dX10_init_10 : decode cX10_init 10 = .ok (.iload_n 2, 1) := dk_28 (dk_at dksX10_init_0 10 rfl rfl)
theorem dX10_init_11 : decode cX10_init 11 = .ok (.putfield 13, 3) := dk_181 0 13 (dk_at dksX10_init_0 11 rfl rfl)
theorem dX10_init_14 : decode cX10_init 14 = .ok (.aload_n 0, 1) := dk_42 (dk_at dksX10_init_0 14 rfl rfl)
theorem dX10_init_15 : decode cX10_init 15 = .ok (.iload_n 3, 1) := dk_29 (dk_at dksX10_init_0 15 rfl rfl)
theorem dX10_init_16 : decode cX10_init 16 = .ok (.putfield 16, 3) := dk_181 0 16 (dk_at dksX10_init_0 16 rfl rfl)
theorem dX10_init_19 : decode cX10_init 19 = .ok (.aload_n 0, 1) := dk_42 (dk_at dksX10_init_0 19 rfl rfl)
theorem dX10_init_20 : decode cX10_init 20 = .ok (.iload 4, 2) := dk_21 4 (dk_at dksX10_init_0 20 rfl rfl)
theorem dX10_init_22 : decode cX10_init 22 = .ok (.putfield 19, 3) := dk_181 0 19 (dk_at dksX10_init_1 0 rfl rfl)
theorem dX10_init_25 : decode cX10_init 25 = .ok (.return_, 1) := dk_177 (dk_at dksX10_init_1 3 rfl rfl)
abbrev cX10_come : ByteArray := prog_8_method_4_code
def yX10_come : MethodName := ⟨RX10, "come", "(LQuorumAlmanac$Node;)V"⟩
def dkwX10_come_0 : List UInt8 := [42, 180, 0, 19, 43, 180, 0, 22, 164, 0, 11, 43, 42, 180, 0, 19, 182, 0, 25, 177]
abbrev dktX10_come_0 : List UInt8 := dkwX10_come_0 ++ []
theorem dksX10_come_0 : cX10_come.data.toList.drop 0 = dktX10_come_0 := by decide +kernel
theorem dX10_come_0 : decode cX10_come 0 = .ok (.aload_n 0, 1) := dk_42 (dk_at dksX10_come_0 0 rfl rfl)
theorem dX10_come_1 : decode cX10_come 1 = .ok (.getfield 19, 3) := dk_180 0 19 (dk_at dksX10_come_0 1 rfl rfl)
theorem dX10_come_4 : decode cX10_come 4 = .ok (.aload_n 1, 1) := dk_43 (dk_at dksX10_come_0 4 rfl rfl)
theorem dX10_come_5 : decode cX10_come 5 = .ok (.getfield 22, 3) := dk_180 0 22 (dk_at dksX10_come_0 5 rfl rfl)
theorem dX10_come_8 : decode cX10_come 8 = .ok (.if_icmp .le 11, 3) := dk_164 0 11 (dk_at dksX10_come_0 8 rfl rfl)
theorem dX10_come_11 : decode cX10_come 11 = .ok (.aload_n 1, 1) := dk_43 (dk_at dksX10_come_0 11 rfl rfl)
theorem dX10_come_12 : decode cX10_come 12 = .ok (.aload_n 0, 1) := dk_42 (dk_at dksX10_come_0 12 rfl rfl)
theorem dX10_come_13 : decode cX10_come 13 = .ok (.getfield 19, 3) := dk_180 0 19 (dk_at dksX10_come_0 13 rfl rfl)
theorem dX10_come_16 : decode cX10_come 16 = .ok (.invokevirtual 25, 3) := dk_182 0 25 (dk_at dksX10_come_0 16 rfl rfl)
theorem dX10_come_19 : decode cX10_come 19 = .ok (.return_, 1) := dk_177 (dk_at dksX10_come_0 19 rfl rfl)
theorem q73 : (Jvm.Cond.initialized "QuorumAlmanac$Message") ∈ lw_all := lw_g (lw_at lw_m1 29 rfl) rfl
theorem q231 : (Jvm.Cond.fieldLink "QuorumAlmanac$Message" (22 : Nat) "QuorumAlmanac$Node" "term" "I") ∈ lw_all := lw_g (lw_at lw_m1 187 rfl) rfl
theorem q1005 : (Jvm.Cond.instanceMethod ({ cls := "QuorumAlmanac$Message", name := "<init>", desc := "(IIII)V" } : Jvm.MethodName)) ∈ lw_all := lw_g (lw_at lw_m5 1 rfl) rfl
theorem q1006 : (Jvm.Cond.code ({ cls := "QuorumAlmanac$Message", name := "<init>", desc := "(IIII)V" } : Jvm.MethodName) prog_8_method_1_code (5 : Nat) (Option.none : Option Jvm.ClassFile.FieldType)) ∈ lw_all := lw_g (lw_at lw_m5 2 rfl) rfl
theorem q1007 : (Jvm.Cond.methodLink "QuorumAlmanac$Message" (1 : Nat) ({ cls := "java/lang/Object", name := "<init>", desc := "()V" } : Jvm.MethodName)) ∈ lw_all := lw_g (lw_at lw_m5 3 rfl) rfl
theorem q1021 : (Jvm.Cond.fieldLink "QuorumAlmanac$Message" (7 : Nat) "QuorumAlmanac$Message" "number" "I") ∈ lw_all := lw_g (lw_at lw_m5 17 rfl) rfl
theorem q1023 : (Jvm.Cond.fieldLink "QuorumAlmanac$Message" (13 : Nat) "QuorumAlmanac$Message" "from" "I") ∈ lw_all := lw_g (lw_at lw_m5 19 rfl) rfl
theorem q1041 : (Jvm.Cond.fieldLink "QuorumAlmanac$Message" (16 : Nat) "QuorumAlmanac$Message" "to" "I") ∈ lw_all := lw_g (lw_at lw_m5 37 rfl) rfl
theorem q1053 : (Jvm.Cond.fieldLink "QuorumAlmanac$Message" (19 : Nat) "QuorumAlmanac$Message" "term" "I") ∈ lw_all := lw_g (lw_at lw_m5 49 rfl) rfl
theorem q1072 : (Jvm.Cond.soleField "QuorumAlmanac$Message" "number") ∈ lw_all := lw_g (lw_at lw_m5 68 rfl) rfl
theorem q1074 : (Jvm.Cond.soleField "QuorumAlmanac$Message" "from") ∈ lw_all := lw_g (lw_at lw_m5 70 rfl) rfl
theorem q1076 : (Jvm.Cond.soleField "QuorumAlmanac$Message" "to") ∈ lw_all := lw_g (lw_at lw_m5 72 rfl) rfl
theorem q1078 : (Jvm.Cond.soleField "QuorumAlmanac$Message" "term") ∈ lw_all := lw_g (lw_at lw_m5 74 rfl) rfl
theorem q1512 : (Jvm.Cond.declares ({ cls := "QuorumAlmanac$Message", name := "kind", desc := "()C" } : Jvm.MethodName)) ∈ lw_tbl := lw_at lw_m7 28 rfl
theorem q1513 : (Jvm.Cond.sameMethod "QuorumAlmanac$Message" "QuorumAlmanac$Message" "kind" "()C") ∈ lw_all := lw_g (lw_at lw_m7 29 rfl) rfl
theorem q1549 : (Jvm.Cond.instanceMethod ({ cls := "QuorumAlmanac$Message", name := "come", desc := "(LQuorumAlmanac$Node;)V" } : Jvm.MethodName)) ∈ lw_all := lw_g (lw_at lw_m7 65 rfl) rfl
theorem q1550 : (Jvm.Cond.sameMethod "QuorumAlmanac$Message" "QuorumAlmanac$Message" "come" "(LQuorumAlmanac$Node;)V") ∈ lw_all := lw_g (lw_at lw_m7 66 rfl) rfl
theorem q1556 : (Jvm.Cond.declares ({ cls := "QuorumAlmanac$Message", name := "come", desc := "(LQuorumAlmanac$Node;)V" } : Jvm.MethodName)) ∈ lw_tbl := lw_at lw_m7 72 rfl
theorem q1558 : (Jvm.Cond.code ({ cls := "QuorumAlmanac$Message", name := "come", desc := "(LQuorumAlmanac$Node;)V" } : Jvm.MethodName) prog_8_method_4_code (2 : Nat) (Option.none : Option Jvm.ClassFile.FieldType)) ∈ lw_all := lw_g (lw_at lw_m7 74 rfl) rfl
theorem q1559 : (Jvm.Cond.methodLink "QuorumAlmanac$Message" (25 : Nat) ({ cls := "QuorumAlmanac$Node", name := "follow", desc := "(I)V" } : Jvm.MethodName)) ∈ lw_all := lw_g (lw_at lw_m7 75 rfl) rfl
theorem q1707 : (Jvm.Cond.declares ({ cls := "QuorumAlmanac$Message", name := "copy", desc := "(I)LQuorumAlmanac$Message;" } : Jvm.MethodName)) ∈ lw_tbl := lw_at lw_m7 223 rfl
theorem q1708 : (Jvm.Cond.sameMethod "QuorumAlmanac$Message" "QuorumAlmanac$Message" "copy" "(I)LQuorumAlmanac$Message;") ∈ lw_all := lw_g (lw_at lw_m7 224 rfl) rfl
/-! QuorumAlmanac$RoundMessage -/
set_option maxRecDepth 100000
def RX11 : String := "QuorumAlmanac$RoundMessage"
abbrev cX11_init : ByteArray := prog_13_method_1_code
def yX11_init : MethodName := ⟨RX11, "<init>", "(IIIII)V"⟩
def dkwX11_init_0 : List UInt8 := [42, 27, 28, 29, 21, 4, 183, 0, 1, 42, 21, 5, 181, 0, 7, 177]
abbrev dktX11_init_0 : List UInt8 := dkwX11_init_0 ++ []
theorem dksX11_init_0 : cX11_init.data.toList.drop 0 = dktX11_init_0 := by decide +kernel
theorem dX11_init_0 : decode cX11_init 0 = .ok (.aload_n 0, 1) := dk_42 (dk_at dksX11_init_0 0 rfl rfl)
theorem dX11_init_1 : decode cX11_init 1 = .ok (.iload_n 1, 1) := dk_27 (dk_at dksX11_init_0 1 rfl rfl)
theorem dX11_init_2 : decode cX11_init 2 = .ok (.iload_n 2, 1) := dk_28 (dk_at dksX11_init_0 2 rfl rfl)
theorem dX11_init_3 : decode cX11_init 3 = .ok (.iload_n 3, 1) := dk_29 (dk_at dksX11_init_0 3 rfl rfl)
theorem dX11_init_4 : decode cX11_init 4 = .ok (.iload 4, 2) := dk_21 4 (dk_at dksX11_init_0 4 rfl rfl)
theorem dX11_init_6 : decode cX11_init 6 = .ok (.invokespecial 1, 3) := dk_183 0 1 (dk_at dksX11_init_0 6 rfl rfl)
theorem dX11_init_9 : decode cX11_init 9 = .ok (.aload_n 0, 1) := dk_42 (dk_at dksX11_init_0 9 rfl rfl)
theorem dX11_init_10 : decode cX11_init 10 = .ok (.iload 5, 2) := dk_21 5 (dk_at dksX11_init_0 10 rfl rfl)
theorem dX11_init_12 : decode cX11_init 12 = .ok (.putfield 7, 3) := dk_181 0 7 (dk_at dksX11_init_0 12 rfl rfl)
theorem dX11_init_15 : decode cX11_init 15 = .ok (.return_, 1) := dk_177 (dk_at dksX11_init_0 15 rfl rfl)
abbrev cX11_leads : ByteArray := prog_13_method_2_code
def yX11_leads : MethodName := ⟨RX11, "leads", "(LQuorumAlmanac$Node;)Z"⟩
def dkwX11_leads_1 : List UInt8 := [42, 182, 0, 27, 4, 172]
abbrev dktX11_leads_1 : List UInt8 := dkwX11_leads_1 ++ []
def dkwX11_leads_0 : List UInt8 := [42, 180, 0, 13, 43, 180, 0, 16, 162, 0, 10, 43, 42, 182, 0, 19, 3, 172, 42, 43, 183, 0, 23, 43]
abbrev dktX11_leads_0 : List UInt8 := dkwX11_leads_0 ++ dktX11_leads_1
theorem dksX11_leads_0 : cX11_leads.data.toList.drop 0 = dktX11_leads_0 := by decide +kernel
theorem dksX11_leads_1 : cX11_leads.data.toList.drop 24 = dktX11_leads_1 := dk_seg dksX11_leads_0 24 rfl rfl
theorem dX11_leads_0 : decode cX11_leads 0 = .ok (.aload_n 0, 1) := dk_42 (dk_at dksX11_leads_0 0 rfl rfl)
theorem dX11_leads_1 : decode cX11_leads 1 = .ok (.getfield 13, 3) := dk_180 0 13 (dk_at dksX11_leads_0 1 rfl rfl)
theorem dX11_leads_4 : decode cX11_leads 4 = .ok (.aload_n 1, 1) := dk_43 (dk_at dksX11_leads_0 4 rfl rfl)
theorem dX11_leads_5 : decode cX11_leads 5 = .ok (.getfield 16, 3) := dk_180 0 16 (dk_at dksX11_leads_0 5 rfl rfl)
theorem dX11_leads_8 : decode cX11_leads 8 = .ok (.if_icmp .ge 10, 3) := dk_162 0 10 (dk_at dksX11_leads_0 8 rfl rfl)
theorem dX11_leads_11 : decode cX11_leads 11 = .ok (.aload_n 1, 1) := dk_43 (dk_at dksX11_leads_0 11 rfl rfl)
theorem dX11_leads_12 : decode cX11_leads 12 = .ok (.aload_n 0, 1) := dk_42 (dk_at dksX11_leads_0 12 rfl rfl)
theorem dX11_leads_13 : decode cX11_leads 13 = .ok (.invokevirtual 19, 3) := dk_182 0 19 (dk_at dksX11_leads_0 13 rfl rfl)
theorem dX11_leads_16 : decode cX11_leads 16 = .ok (.iconst 0, 1) := dk_3 (dk_at dksX11_leads_0 16 rfl rfl)
theorem dX11_leads_17 : decode cX11_leads 17 = .ok (.ireturn, 1) := dk_172 (dk_at dksX11_leads_0 17 rfl rfl)
theorem dX11_leads_18 : decode cX11_leads 18 = .ok (.aload_n 0, 1) := dk_42 (dk_at dksX11_leads_0 18 rfl rfl)
theorem dX11_leads_19 : decode cX11_leads 19 = .ok (.aload_n 1, 1) := dk_43 (dk_at dksX11_leads_0 19 rfl rfl)
theorem dX11_leads_20 : decode cX11_leads 20 = .ok (.invokespecial 23, 3) := dk_183 0 23 (dk_at dksX11_leads_0 20 rfl rfl)
theorem dX11_leads_23 : decode cX11_leads 23 = .ok (.aload_n 1, 1) := dk_43 (dk_at dksX11_leads_0 23 rfl rfl)
theorem dX11_leads_24 : decode cX11_leads 24 = .ok (.aload_n 0, 1) := dk_42 (dk_at dksX11_leads_1 0 rfl rfl)
theorem dX11_leads_25 : decode cX11_leads 25 = .ok (.invokevirtual 27, 3) := dk_182 0 27 (dk_at dksX11_leads_1 1 rfl rfl)
theorem dX11_leads_28 : decode cX11_leads 28 = .ok (.iconst 1, 1) := dk_4 (dk_at dksX11_leads_1 4 rfl rfl)
theorem dX11_leads_29 : decode cX11_leads 29 = .ok (.ireturn, 1) := dk_172 (dk_at dksX11_leads_1 5 rfl rfl)
theorem q74 : (Jvm.Cond.initialized "QuorumAlmanac$RoundMessage") ∈ lw_all := lw_g (lw_at lw_m1 30 rfl) rfl
theorem q230 : (Jvm.Cond.fieldLink "QuorumAlmanac$RoundMessage" (16 : Nat) "QuorumAlmanac$Node" "term" "I") ∈ lw_all := lw_g (lw_at lw_m1 186 rfl) rfl
theorem q1002 : (Jvm.Cond.instanceMethod ({ cls := "QuorumAlmanac$RoundMessage", name := "<init>", desc := "(IIIII)V" } : Jvm.MethodName)) ∈ lw_all := lw_g (lw_at lw_m4 238 rfl) rfl
theorem q1003 : (Jvm.Cond.code ({ cls := "QuorumAlmanac$RoundMessage", name := "<init>", desc := "(IIIII)V" } : Jvm.MethodName) prog_13_method_1_code (6 : Nat) (Option.none : Option Jvm.ClassFile.FieldType)) ∈ lw_all := lw_g (lw_at lw_m4 239 rfl) rfl
theorem q1004 : (Jvm.Cond.methodLink "QuorumAlmanac$RoundMessage" (1 : Nat) ({ cls := "QuorumAlmanac$Message", name := "<init>", desc := "(IIII)V" } : Jvm.MethodName)) ∈ lw_all := lw_g (lw_at lw_m5 0 rfl) rfl
theorem q1010 : (Jvm.Cond.fieldLink "QuorumAlmanac$RoundMessage" (7 : Nat) "QuorumAlmanac$RoundMessage" "round" "I") ∈ lw_all := lw_g (lw_at lw_m5 6 rfl) rfl
theorem q1036 : (Jvm.Cond.sameField "QuorumAlmanac$RoundMessage" "QuorumAlmanac$Message" "from" "I") ∈ lw_all := lw_g (lw_at lw_m5 32 rfl) rfl
theorem q1054 : (Jvm.Cond.fieldLink "QuorumAlmanac$RoundMessage" (13 : Nat) "QuorumAlmanac$RoundMessage" "term" "I") ∈ lw_all := lw_g (lw_at lw_m5 50 rfl) rfl
theorem q1055 : (Jvm.Cond.sameField "QuorumAlmanac$RoundMessage" "QuorumAlmanac$Message" "term" "I") ∈ lw_all := lw_g (lw_at lw_m5 51 rfl) rfl
theorem q1070 : (Jvm.Cond.soleField "QuorumAlmanac$RoundMessage" "round") ∈ lw_all := lw_g (lw_at lw_m5 66 rfl) rfl
theorem q1555 : (Jvm.Cond.sameMethod "QuorumAlmanac$RoundMessage" "QuorumAlmanac$Message" "come" "(LQuorumAlmanac$Node;)V") ∈ lw_all := lw_g (lw_at lw_m7 71 rfl) rfl
theorem q1557 : (Jvm.Cond.superclass "QuorumAlmanac$RoundMessage" "QuorumAlmanac$Message") ∈ lw_all := lw_g (lw_at lw_m7 73 rfl) rfl
theorem q1569 : (Jvm.Cond.declares ({ cls := "QuorumAlmanac$RoundMessage", name := "leads", desc := "(LQuorumAlmanac$Node;)Z" } : Jvm.MethodName)) ∈ lw_tbl := lw_at lw_m7 85 rfl
theorem q1571 : (Jvm.Cond.instanceMethod ({ cls := "QuorumAlmanac$RoundMessage", name := "leads", desc := "(LQuorumAlmanac$Node;)Z" } : Jvm.MethodName)) ∈ lw_all := lw_g (lw_at lw_m7 87 rfl) rfl
theorem q1572 : (Jvm.Cond.code ({ cls := "QuorumAlmanac$RoundMessage", name := "leads", desc := "(LQuorumAlmanac$Node;)Z" } : Jvm.MethodName) prog_13_method_2_code (2 : Nat) (Option.some Jvm.ClassFile.FieldType.boolean)) ∈ lw_all := lw_g (lw_at lw_m7 88 rfl) rfl
theorem q1573 : (Jvm.Cond.methodLink "QuorumAlmanac$RoundMessage" (19 : Nat) ({ cls := "QuorumAlmanac$Node", name := "lower", desc := "(LQuorumAlmanac$RoundMessage;)V" } : Jvm.MethodName)) ∈ lw_all := lw_g (lw_at lw_m7 89 rfl) rfl
theorem q1577 : (Jvm.Cond.methodLink "QuorumAlmanac$RoundMessage" (23 : Nat) ({ cls := "QuorumAlmanac$Message", name := "come", desc := "(LQuorumAlmanac$Node;)V" } : Jvm.MethodName)) ∈ lw_all := lw_g (lw_at lw_m7 93 rfl) rfl
theorem q1578 : (Jvm.Cond.methodLink "QuorumAlmanac$RoundMessage" (27 : Nat) ({ cls := "QuorumAlmanac$Node", name := "hear", desc := "(LQuorumAlmanac$RoundMessage;)V" } : Jvm.MethodName)) ∈ lw_all := lw_g (lw_at lw_m7 94 rfl) rfl
/-! QuorumAlmanac$Install -/
set_option maxRecDepth 100000
def RX12 : String := "QuorumAlmanac$Install"
def TX12 : u_T := fun k => match k with
  | 0 => ("QuorumAlmanac$Message", "number", "I", true)
  | 1 => ("QuorumAlmanac$Message", "from", "I", true)
  | 2 => ("QuorumAlmanac$Message", "to", "I", true)
  | 3 => ("QuorumAlmanac$Message", "term", "I", true)
  | 4 => ("QuorumAlmanac$RoundMessage", "round", "I", true)
  | _ => ("QuorumAlmanac$Install", "snapshot", "LQuorumAlmanac$Snapshot;", true)
def tyX12 : Nat → FieldType := fun k => match k with
  | 0 => .int
  | 1 => .int
  | 2 => .int
  | 3 => .int
  | 4 => .int
  | _ => .object "QuorumAlmanac$Snapshot"
abbrev wsX120 : List Cond := u_ws RX12 TX12 6
theorem nmX12 : ∀ a, a < 6 → ∀ b, b < 6 → a ≠ b → (TX12 a).2.1 ≠ (TX12 b).2.1 := by decide +kernel
theorem tyX12_ok : ∀ k, k < 6 → parseFieldDescriptor (TX12 k).2.2.1 = some (tyX12 k) := by decide +kernel
abbrev cX12_init : ByteArray := prog_5_method_1_code
def yX12_init : MethodName := ⟨RX12, "<init>", "(IIIIILQuorumAlmanac$Snapshot;)V"⟩
def dkwX12_init_0 : List UInt8 := [42, 27, 28, 29, 21, 4, 21, 5, 183, 0, 1, 42, 25, 6, 181, 0, 7, 177]
abbrev dktX12_init_0 : List UInt8 := dkwX12_init_0 ++ []
theorem dksX12_init_0 : cX12_init.data.toList.drop 0 = dktX12_init_0 := by decide +kernel
theorem dX12_init_0 : decode cX12_init 0 = .ok (.aload_n 0, 1) := dk_42 (dk_at dksX12_init_0 0 rfl rfl)
theorem dX12_init_1 : decode cX12_init 1 = .ok (.iload_n 1, 1) := dk_27 (dk_at dksX12_init_0 1 rfl rfl)
theorem dX12_init_2 : decode cX12_init 2 = .ok (.iload_n 2, 1) := dk_28 (dk_at dksX12_init_0 2 rfl rfl)
theorem dX12_init_3 : decode cX12_init 3 = .ok (.iload_n 3, 1) := dk_29 (dk_at dksX12_init_0 3 rfl rfl)
theorem dX12_init_4 : decode cX12_init 4 = .ok (.iload 4, 2) := dk_21 4 (dk_at dksX12_init_0 4 rfl rfl)
theorem dX12_init_6 : decode cX12_init 6 = .ok (.iload 5, 2) := dk_21 5 (dk_at dksX12_init_0 6 rfl rfl)
theorem dX12_init_8 : decode cX12_init 8 = .ok (.invokespecial 1, 3) := dk_183 0 1 (dk_at dksX12_init_0 8 rfl rfl)
theorem dX12_init_11 : decode cX12_init 11 = .ok (.aload_n 0, 1) := dk_42 (dk_at dksX12_init_0 11 rfl rfl)
theorem dX12_init_12 : decode cX12_init 12 = .ok (.aload 6, 2) := dk_25 6 (dk_at dksX12_init_0 12 rfl rfl)
theorem dX12_init_14 : decode cX12_init 14 = .ok (.putfield 7, 3) := dk_181 0 7 (dk_at dksX12_init_0 14 rfl rfl)
theorem dX12_init_17 : decode cX12_init 17 = .ok (.return_, 1) := dk_177 (dk_at dksX12_init_0 17 rfl rfl)
abbrev cX12_kind : ByteArray := prog_5_method_2_code
def yX12_kind : MethodName := ⟨RX12, "kind", "()C"⟩
theorem dX12_kind_0 : decode cX12_kind 0 = .ok (.bipush 115, 2) := by decide +kernel
theorem dX12_kind_2 : decode cX12_kind 2 = .ok (.ireturn, 1) := by decide +kernel
abbrev cX12_come : ByteArray := prog_5_method_4_code
def yX12_come : MethodName := ⟨RX12, "come", "(LQuorumAlmanac$Node;)V"⟩
def dkwX12_come_0 : List UInt8 := [42, 43, 182, 0, 29, 153, 0, 8, 43, 42, 182, 0, 33, 177]
abbrev dktX12_come_0 : List UInt8 := dkwX12_come_0 ++ []
theorem dksX12_come_0 : cX12_come.data.toList.drop 0 = dktX12_come_0 := by decide +kernel
theorem dX12_come_0 : decode cX12_come 0 = .ok (.aload_n 0, 1) := dk_42 (dk_at dksX12_come_0 0 rfl rfl)
theorem dX12_come_1 : decode cX12_come 1 = .ok (.aload_n 1, 1) := dk_43 (dk_at dksX12_come_0 1 rfl rfl)
theorem dX12_come_2 : decode cX12_come 2 = .ok (.invokevirtual 29, 3) := dk_182 0 29 (dk_at dksX12_come_0 2 rfl rfl)
theorem dX12_come_5 : decode cX12_come 5 = .ok (.ifCond .eq 8, 3) := dk_153 0 8 (dk_at dksX12_come_0 5 rfl rfl)
theorem dX12_come_8 : decode cX12_come 8 = .ok (.aload_n 1, 1) := dk_43 (dk_at dksX12_come_0 8 rfl rfl)
theorem dX12_come_9 : decode cX12_come 9 = .ok (.aload_n 0, 1) := dk_42 (dk_at dksX12_come_0 9 rfl rfl)
theorem dX12_come_10 : decode cX12_come 10 = .ok (.invokevirtual 33, 3) := dk_182 0 33 (dk_at dksX12_come_0 10 rfl rfl)
theorem dX12_come_13 : decode cX12_come 13 = .ok (.return_, 1) := dk_177 (dk_at dksX12_come_0 13 rfl rfl)
abbrev cX12_copy : ByteArray := prog_5_method_3_code
def yX12_copy : MethodName := ⟨RX12, "copy", "(I)LQuorumAlmanac$Message;"⟩
def dkwX12_copy_1 : List UInt8 := [180, 0, 7, 183, 0, 26, 176]
abbrev dktX12_copy_1 : List UInt8 := dkwX12_copy_1 ++ []
def dkwX12_copy_0 : List UInt8 := [187, 0, 8, 89, 27, 42, 180, 0, 13, 42, 180, 0, 17, 42, 180, 0, 20, 42, 180, 0, 23, 42]
abbrev dktX12_copy_0 : List UInt8 := dkwX12_copy_0 ++ dktX12_copy_1
theorem dksX12_copy_0 : cX12_copy.data.toList.drop 0 = dktX12_copy_0 := by decide +kernel
theorem dksX12_copy_1 : cX12_copy.data.toList.drop 22 = dktX12_copy_1 := dk_seg dksX12_copy_0 22 rfl rfl
theorem dX12_copy_0 : decode cX12_copy 0 = .ok (.new 8, 3) := dk_187 0 8 (dk_at dksX12_copy_0 0 rfl rfl)
theorem dX12_copy_3 : decode cX12_copy 3 = .ok (.dup, 1) := dk_89 (dk_at dksX12_copy_0 3 rfl rfl)
theorem dX12_copy_4 : decode cX12_copy 4 = .ok (.iload_n 1, 1) := dk_27 (dk_at dksX12_copy_0 4 rfl rfl)
theorem dX12_copy_5 : decode cX12_copy 5 = .ok (.aload_n 0, 1) := dk_42 (dk_at dksX12_copy_0 5 rfl rfl)
theorem dX12_copy_6 : decode cX12_copy 6 = .ok (.getfield 13, 3) := dk_180 0 13 (dk_at dksX12_copy_0 6 rfl rfl)
theorem dX12_copy_9 : decode cX12_copy 9 = .ok (.aload_n 0, 1) := dk_42 (dk_at dksX12_copy_0 9 rfl rfl)
theorem dX12_copy_10 : decode cX12_copy 10 = .ok (.getfield 17, 3) := dk_180 0 17 (dk_at dksX12_copy_0 10 rfl rfl)
theorem dX12_copy_13 : decode cX12_copy 13 = .ok (.aload_n 0, 1) := dk_42 (dk_at dksX12_copy_0 13 rfl rfl)
theorem dX12_copy_14 : decode cX12_copy 14 = .ok (.getfield 20, 3) := dk_180 0 20 (dk_at dksX12_copy_0 14 rfl rfl)
theorem dX12_copy_17 : decode cX12_copy 17 = .ok (.aload_n 0, 1) := dk_42 (dk_at dksX12_copy_0 17 rfl rfl)
theorem dX12_copy_18 : decode cX12_copy 18 = .ok (.getfield 23, 3) := dk_180 0 23 (dk_at dksX12_copy_0 18 rfl rfl)
theorem dX12_copy_21 : decode cX12_copy 21 = .ok (.aload_n 0, 1) := dk_42 (dk_at dksX12_copy_0 21 rfl rfl)
theorem dX12_copy_22 : decode cX12_copy 22 = .ok (.getfield 7, 3) := dk_180 0 7 (dk_at dksX12_copy_1 0 rfl rfl)
theorem dX12_copy_25 : decode cX12_copy 25 = .ok (.invokespecial 26, 3) := dk_183 0 26 (dk_at dksX12_copy_1 3 rfl rfl)
theorem dX12_copy_28 : decode cX12_copy 28 = .ok (.areturn, 1) := dk_176 (dk_at dksX12_copy_1 6 rfl rfl)
theorem q75 : (Jvm.Cond.initialized "QuorumAlmanac$Install") ∈ lw_all := lw_g (lw_at lw_m1 31 rfl) rfl
theorem q457 : (Jvm.Cond.selects "QuorumAlmanac$Install" ({ cls := "java/lang/Object", name := "hashCode", desc := "()I" } : Jvm.MethodName) ({ cls := "java/lang/Object", name := "hashCode", desc := "()I" } : Jvm.MethodName)) ∈ lw_all := lw_g (lw_at lw_m2 173 rfl) rfl
theorem q562 : (Jvm.Cond.selects "QuorumAlmanac$Install" ({ cls := "java/lang/Object", name := "getClass", desc := "()Ljava/lang/Class;" } : Jvm.MethodName) ({ cls := "java/lang/Object", name := "getClass", desc := "()Ljava/lang/Class;" } : Jvm.MethodName)) ∈ lw_all := lw_g (lw_at lw_m3 38 rfl) rfl
theorem q641 : (Jvm.Cond.selects "QuorumAlmanac$Install" ({ cls := "java/lang/Object", name := "equals", desc := "(Ljava/lang/Object;)Z" } : Jvm.MethodName) ({ cls := "java/lang/Object", name := "equals", desc := "(Ljava/lang/Object;)Z" } : Jvm.MethodName)) ∈ lw_all := lw_g (lw_at lw_m3 117 rfl) rfl
theorem q993 : (Jvm.Cond.instantiable "QuorumAlmanac$Install" (6 : Nat)) ∈ lw_all := lw_g (lw_at lw_m4 229 rfl) rfl
theorem q999 : (Jvm.Cond.instanceMethod ({ cls := "QuorumAlmanac$Install", name := "<init>", desc := "(IIIIILQuorumAlmanac$Snapshot;)V" } : Jvm.MethodName)) ∈ lw_all := lw_g (lw_at lw_m4 235 rfl) rfl
theorem q1000 : (Jvm.Cond.code ({ cls := "QuorumAlmanac$Install", name := "<init>", desc := "(IIIIILQuorumAlmanac$Snapshot;)V" } : Jvm.MethodName) prog_5_method_1_code (7 : Nat) (Option.none : Option Jvm.ClassFile.FieldType)) ∈ lw_all := lw_g (lw_at lw_m4 236 rfl) rfl
theorem q1001 : (Jvm.Cond.methodLink "QuorumAlmanac$Install" (1 : Nat) ({ cls := "QuorumAlmanac$RoundMessage", name := "<init>", desc := "(IIIII)V" } : Jvm.MethodName)) ∈ lw_all := lw_g (lw_at lw_m4 237 rfl) rfl
theorem q1008 : (Jvm.Cond.fieldLink "QuorumAlmanac$Install" (7 : Nat) "QuorumAlmanac$Install" "snapshot" "LQuorumAlmanac$Snapshot;") ∈ lw_all := lw_g (lw_at lw_m5 4 rfl) rfl
theorem q1015 : (Jvm.Cond.fieldLink "QuorumAlmanac$Install" (23 : Nat) "QuorumAlmanac$Install" "round" "I") ∈ lw_all := lw_g (lw_at lw_m5 11 rfl) rfl
theorem q1016 : (Jvm.Cond.sameField "QuorumAlmanac$Install" "QuorumAlmanac$RoundMessage" "round" "I") ∈ lw_all := lw_g (lw_at lw_m5 12 rfl) rfl
theorem q1028 : (Jvm.Cond.fieldLink "QuorumAlmanac$Install" (13 : Nat) "QuorumAlmanac$Install" "from" "I") ∈ lw_all := lw_g (lw_at lw_m5 24 rfl) rfl
theorem q1029 : (Jvm.Cond.sameField "QuorumAlmanac$Install" "QuorumAlmanac$Message" "from" "I") ∈ lw_all := lw_g (lw_at lw_m5 25 rfl) rfl
theorem q1046 : (Jvm.Cond.fieldLink "QuorumAlmanac$Install" (17 : Nat) "QuorumAlmanac$Install" "to" "I") ∈ lw_all := lw_g (lw_at lw_m5 42 rfl) rfl
theorem q1047 : (Jvm.Cond.sameField "QuorumAlmanac$Install" "QuorumAlmanac$Message" "to" "I") ∈ lw_all := lw_g (lw_at lw_m5 43 rfl) rfl
theorem q1060 : (Jvm.Cond.fieldLink "QuorumAlmanac$Install" (20 : Nat) "QuorumAlmanac$Install" "term" "I") ∈ lw_all := lw_g (lw_at lw_m5 56 rfl) rfl
theorem q1061 : (Jvm.Cond.sameField "QuorumAlmanac$Install" "QuorumAlmanac$Message" "term" "I") ∈ lw_all := lw_g (lw_at lw_m5 57 rfl) rfl
theorem q1067 : (Jvm.Cond.laysFinal "QuorumAlmanac$Install" "QuorumAlmanac$Install" "snapshot" "LQuorumAlmanac$Snapshot;") ∈ lw_all := lw_g (lw_at lw_m5 63 rfl) rfl
theorem q1068 : (Jvm.Cond.soleField "QuorumAlmanac$Install" "snapshot") ∈ lw_all := lw_g (lw_at lw_m5 64 rfl) rfl
theorem q1069 : (Jvm.Cond.laysFinal "QuorumAlmanac$Install" "QuorumAlmanac$RoundMessage" "round" "I") ∈ lw_all := lw_g (lw_at lw_m5 65 rfl) rfl
theorem q1071 : (Jvm.Cond.laysFinal "QuorumAlmanac$Install" "QuorumAlmanac$Message" "number" "I") ∈ lw_all := lw_g (lw_at lw_m5 67 rfl) rfl
theorem q1073 : (Jvm.Cond.laysFinal "QuorumAlmanac$Install" "QuorumAlmanac$Message" "from" "I") ∈ lw_all := lw_g (lw_at lw_m5 69 rfl) rfl
theorem q1075 : (Jvm.Cond.laysFinal "QuorumAlmanac$Install" "QuorumAlmanac$Message" "to" "I") ∈ lw_all := lw_g (lw_at lw_m5 71 rfl) rfl
theorem q1077 : (Jvm.Cond.laysFinal "QuorumAlmanac$Install" "QuorumAlmanac$Message" "term" "I") ∈ lw_all := lw_g (lw_at lw_m5 73 rfl) rfl
theorem q1079 : (Jvm.Cond.superclass "QuorumAlmanac$Install" "QuorumAlmanac$RoundMessage") ∈ lw_all := lw_g (lw_at lw_m5 75 rfl) rfl
theorem q1520 : (Jvm.Cond.selects "QuorumAlmanac$Install" ({ cls := "QuorumAlmanac$Message", name := "kind", desc := "()C" } : Jvm.MethodName) ({ cls := "QuorumAlmanac$Install", name := "kind", desc := "()C" } : Jvm.MethodName)) ∈ lw_all := lw_g (lw_at lw_m7 36 rfl) rfl
theorem q1521 : (Jvm.Cond.instanceMethod ({ cls := "QuorumAlmanac$Install", name := "kind", desc := "()C" } : Jvm.MethodName)) ∈ lw_all := lw_g (lw_at lw_m7 37 rfl) rfl
theorem q1522 : (Jvm.Cond.code ({ cls := "QuorumAlmanac$Install", name := "kind", desc := "()C" } : Jvm.MethodName) prog_5_method_2_code (1 : Nat) (Option.some Jvm.ClassFile.FieldType.char)) ∈ lw_all := lw_g (lw_at lw_m7 38 rfl) rfl
theorem q1642 : (Jvm.Cond.selects "QuorumAlmanac$Install" ({ cls := "QuorumAlmanac$Message", name := "come", desc := "(LQuorumAlmanac$Node;)V" } : Jvm.MethodName) ({ cls := "QuorumAlmanac$Install", name := "come", desc := "(LQuorumAlmanac$Node;)V" } : Jvm.MethodName)) ∈ lw_all := lw_g (lw_at lw_m7 158 rfl) rfl
theorem q1643 : (Jvm.Cond.instanceMethod ({ cls := "QuorumAlmanac$Install", name := "come", desc := "(LQuorumAlmanac$Node;)V" } : Jvm.MethodName)) ∈ lw_all := lw_g (lw_at lw_m7 159 rfl) rfl
theorem q1644 : (Jvm.Cond.code ({ cls := "QuorumAlmanac$Install", name := "come", desc := "(LQuorumAlmanac$Node;)V" } : Jvm.MethodName) prog_5_method_4_code (2 : Nat) (Option.none : Option Jvm.ClassFile.FieldType)) ∈ lw_all := lw_g (lw_at lw_m7 160 rfl) rfl
theorem q1645 : (Jvm.Cond.methodLink "QuorumAlmanac$Install" (29 : Nat) ({ cls := "QuorumAlmanac$Install", name := "leads", desc := "(LQuorumAlmanac$Node;)Z" } : Jvm.MethodName)) ∈ lw_all := lw_g (lw_at lw_m7 161 rfl) rfl
theorem q1646 : (Jvm.Cond.sameMethod "QuorumAlmanac$Install" "QuorumAlmanac$RoundMessage" "leads" "(LQuorumAlmanac$Node;)Z") ∈ lw_all := lw_g (lw_at lw_m7 162 rfl) rfl
theorem q1647 : (Jvm.Cond.selects "QuorumAlmanac$Install" ({ cls := "QuorumAlmanac$Install", name := "leads", desc := "(LQuorumAlmanac$Node;)Z" } : Jvm.MethodName) ({ cls := "QuorumAlmanac$RoundMessage", name := "leads", desc := "(LQuorumAlmanac$Node;)Z" } : Jvm.MethodName)) ∈ lw_all := lw_g (lw_at lw_m7 163 rfl) rfl
theorem q1648 : (Jvm.Cond.methodLink "QuorumAlmanac$Install" (33 : Nat) ({ cls := "QuorumAlmanac$Node", name := "install", desc := "(LQuorumAlmanac$Install;)V" } : Jvm.MethodName)) ∈ lw_all := lw_g (lw_at lw_m7 164 rfl) rfl
theorem q1719 : (Jvm.Cond.selects "QuorumAlmanac$Install" ({ cls := "QuorumAlmanac$Message", name := "copy", desc := "(I)LQuorumAlmanac$Message;" } : Jvm.MethodName) ({ cls := "QuorumAlmanac$Install", name := "copy", desc := "(I)LQuorumAlmanac$Message;" } : Jvm.MethodName)) ∈ lw_all := lw_g (lw_at lw_m7 235 rfl) rfl
theorem q1720 : (Jvm.Cond.instanceMethod ({ cls := "QuorumAlmanac$Install", name := "copy", desc := "(I)LQuorumAlmanac$Message;" } : Jvm.MethodName)) ∈ lw_all := lw_g (lw_at lw_m7 236 rfl) rfl
theorem q1721 : (Jvm.Cond.code ({ cls := "QuorumAlmanac$Install", name := "copy", desc := "(I)LQuorumAlmanac$Message;" } : Jvm.MethodName) prog_5_method_3_code (2 : Nat) (Option.some (Jvm.ClassFile.FieldType.object "QuorumAlmanac$Message"))) ∈ lw_all := lw_g (lw_at lw_m7 237 rfl) rfl
theorem q1722 : (Jvm.Cond.classLink "QuorumAlmanac$Install" (8 : Nat) "QuorumAlmanac$Install") ∈ lw_all := lw_g (lw_at lw_m7 238 rfl) rfl
theorem q1723 : (Jvm.Cond.methodLink "QuorumAlmanac$Install" (26 : Nat) ({ cls := "QuorumAlmanac$Install", name := "<init>", desc := "(IIIIILQuorumAlmanac$Snapshot;)V" } : Jvm.MethodName)) ∈ lw_all := lw_g (lw_at lw_m7 239 rfl) rfl
theorem q2633 : (Jvm.Cond.castable "QuorumAlmanac$Install" "QuorumAlmanac$Message") ∈ lw_tbl := lw_at lw_m11 189 rfl
theorem q2652 : (Jvm.Cond.castable "QuorumAlmanac$Install" "java/lang/Object") ∈ lw_tbl := lw_at lw_m11 208 rfl
theorem in_X12 : ∀ w ∈ wsX120, w ∈ lw_all := lw_in wsX120 [1071, 1073, 1075, 1077, 1069, 1067] (by decide +kernel) (by decide +kernel)
/-! QuorumAlmanac$Append -/
set_option maxRecDepth 100000
def RX13 : String := "QuorumAlmanac$Append"
def TX13 : u_T := fun k => match k with
  | 0 => ("QuorumAlmanac$Message", "number", "I", true)
  | 1 => ("QuorumAlmanac$Message", "from", "I", true)
  | 2 => ("QuorumAlmanac$Message", "to", "I", true)
  | 3 => ("QuorumAlmanac$Message", "term", "I", true)
  | 4 => ("QuorumAlmanac$RoundMessage", "round", "I", true)
  | 5 => ("QuorumAlmanac$Append", "ahead", "I", true)
  | 6 => ("QuorumAlmanac$Append", "aheadTerm", "I", true)
  | 7 => ("QuorumAlmanac$Append", "entries", "Ljava/util/ArrayList;", true)
  | _ => ("QuorumAlmanac$Append", "committed", "I", true)
def tyX13 : Nat → FieldType := fun k => match k with
  | 0 => .int
  | 1 => .int
  | 2 => .int
  | 3 => .int
  | 4 => .int
  | 5 => .int
  | 6 => .int
  | 7 => .object "java/util/ArrayList"
  | _ => .int
abbrev wsX130 : List Cond := u_ws RX13 TX13 9
theorem nmX13 : ∀ a, a < 9 → ∀ b, b < 9 → a ≠ b → (TX13 a).2.1 ≠ (TX13 b).2.1 := by decide +kernel
theorem tyX13_ok : ∀ k, k < 9 → parseFieldDescriptor (TX13 k).2.2.1 = some (tyX13 k) := by decide +kernel
abbrev cX13_init : ByteArray := prog_3_method_1_code
def yX13_init : MethodName := ⟨RX13, "<init>", "(IIIIIIILjava/util/ArrayList;I)V"⟩
def dkwX13_init_1 : List UInt8 := [25, 8, 181, 0, 16, 42, 21, 9, 181, 0, 20, 177]
abbrev dktX13_init_1 : List UInt8 := dkwX13_init_1 ++ []
def dkwX13_init_0 : List UInt8 := [42, 27, 28, 29, 21, 4, 21, 5, 183, 0, 1, 42, 21, 6, 181, 0, 7, 42, 21, 7, 181, 0, 13, 42]
abbrev dktX13_init_0 : List UInt8 := dkwX13_init_0 ++ dktX13_init_1
theorem dksX13_init_0 : cX13_init.data.toList.drop 0 = dktX13_init_0 := by decide +kernel
theorem dksX13_init_1 : cX13_init.data.toList.drop 24 = dktX13_init_1 := dk_seg dksX13_init_0 24 rfl rfl
theorem dX13_init_0 : decode cX13_init 0 = .ok (.aload_n 0, 1) := dk_42 (dk_at dksX13_init_0 0 rfl rfl)
theorem dX13_init_1 : decode cX13_init 1 = .ok (.iload_n 1, 1) := dk_27 (dk_at dksX13_init_0 1 rfl rfl)
theorem dX13_init_2 : decode cX13_init 2 = .ok (.iload_n 2, 1) := dk_28 (dk_at dksX13_init_0 2 rfl rfl)
theorem dX13_init_3 : decode cX13_init 3 = .ok (.iload_n 3, 1) := dk_29 (dk_at dksX13_init_0 3 rfl rfl)
theorem dX13_init_4 : decode cX13_init 4 = .ok (.iload 4, 2) := dk_21 4 (dk_at dksX13_init_0 4 rfl rfl)
theorem dX13_init_6 : decode cX13_init 6 = .ok (.iload 5, 2) := dk_21 5 (dk_at dksX13_init_0 6 rfl rfl)
theorem dX13_init_8 : decode cX13_init 8 = .ok (.invokespecial 1, 3) := dk_183 0 1 (dk_at dksX13_init_0 8 rfl rfl)
theorem dX13_init_11 : decode cX13_init 11 = .ok (.aload_n 0, 1) := dk_42 (dk_at dksX13_init_0 11 rfl rfl)
theorem dX13_init_12 : decode cX13_init 12 = .ok (.iload 6, 2) := dk_21 6 (dk_at dksX13_init_0 12 rfl rfl)
theorem dX13_init_14 : decode cX13_init 14 = .ok (.putfield 7, 3) := dk_181 0 7 (dk_at dksX13_init_0 14 rfl rfl)
theorem dX13_init_17 : decode cX13_init 17 = .ok (.aload_n 0, 1) := dk_42 (dk_at dksX13_init_0 17 rfl rfl)
theorem dX13_init_18 : decode cX13_init 18 = .ok (.iload 7, 2) := dk_21 7 (dk_at dksX13_init_0 18 rfl rfl)
theorem dX13_init_20 : decode cX13_init 20 = .ok (.putfield 13, 3) := dk_181 0 13 (dk_at dksX13_init_0 20 rfl rfl)
theorem dX13_init_23 : decode cX13_init 23 = .ok (.aload_n 0, 1) := dk_42 (dk_at dksX13_init_0 23 rfl rfl)
theorem dX13_init_24 : decode cX13_init 24 = .ok (.aload 8, 2) := dk_25 8 (dk_at dksX13_init_1 0 rfl rfl)
theorem dX13_init_26 : decode cX13_init 26 = .ok (.putfield 16, 3) := dk_181 0 16 (dk_at dksX13_init_1 2 rfl rfl)
theorem dX13_init_29 : decode cX13_init 29 = .ok (.aload_n 0, 1) := dk_42 (dk_at dksX13_init_1 5 rfl rfl)
theorem dX13_init_30 : decode cX13_init 30 = .ok (.iload 9, 2) := dk_21 9 (dk_at dksX13_init_1 6 rfl rfl)
theorem dX13_init_32 : decode cX13_init 32 = .ok (.putfield 20, 3) := dk_181 0 20 (dk_at dksX13_init_1 8 rfl rfl)
theorem dX13_init_35 : decode cX13_init 35 = .ok (.return_, 1) := dk_177 (dk_at dksX13_init_1 11 rfl rfl)
abbrev cX13_kind : ByteArray := prog_3_method_2_code
def yX13_kind : MethodName := ⟨RX13, "kind", "()C"⟩
theorem dX13_kind_0 : decode cX13_kind 0 = .ok (.bipush 97, 2) := by decide +kernel
theorem dX13_kind_2 : decode cX13_kind 2 = .ok (.ireturn, 1) := by decide +kernel
abbrev cX13_come : ByteArray := prog_3_method_4_code
def yX13_come : MethodName := ⟨RX13, "come", "(LQuorumAlmanac$Node;)V"⟩
def dkwX13_come_0 : List UInt8 := [42, 43, 182, 0, 38, 153, 0, 8, 43, 42, 182, 0, 42, 177]
abbrev dktX13_come_0 : List UInt8 := dkwX13_come_0 ++ []
theorem dksX13_come_0 : cX13_come.data.toList.drop 0 = dktX13_come_0 := by decide +kernel
theorem dX13_come_0 : decode cX13_come 0 = .ok (.aload_n 0, 1) := dk_42 (dk_at dksX13_come_0 0 rfl rfl)
theorem dX13_come_1 : decode cX13_come 1 = .ok (.aload_n 1, 1) := dk_43 (dk_at dksX13_come_0 1 rfl rfl)
theorem dX13_come_2 : decode cX13_come 2 = .ok (.invokevirtual 38, 3) := dk_182 0 38 (dk_at dksX13_come_0 2 rfl rfl)
theorem dX13_come_5 : decode cX13_come 5 = .ok (.ifCond .eq 8, 3) := dk_153 0 8 (dk_at dksX13_come_0 5 rfl rfl)
theorem dX13_come_8 : decode cX13_come 8 = .ok (.aload_n 1, 1) := dk_43 (dk_at dksX13_come_0 8 rfl rfl)
theorem dX13_come_9 : decode cX13_come 9 = .ok (.aload_n 0, 1) := dk_42 (dk_at dksX13_come_0 9 rfl rfl)
theorem dX13_come_10 : decode cX13_come 10 = .ok (.invokevirtual 42, 3) := dk_182 0 42 (dk_at dksX13_come_0 10 rfl rfl)
theorem dX13_come_13 : decode cX13_come 13 = .ok (.return_, 1) := dk_177 (dk_at dksX13_come_0 13 rfl rfl)
abbrev cX13_copy : ByteArray := prog_3_method_3_code
def yX13_copy : MethodName := ⟨RX13, "copy", "(I)LQuorumAlmanac$Message;"⟩
def dkwX13_copy_1 : List UInt8 := [180, 0, 7, 42, 180, 0, 13, 42, 180, 0, 16, 42, 180, 0, 20, 183, 0, 35, 176]
abbrev dktX13_copy_1 : List UInt8 := dkwX13_copy_1 ++ []
def dkwX13_copy_0 : List UInt8 := [187, 0, 8, 89, 27, 42, 180, 0, 23, 42, 180, 0, 26, 42, 180, 0, 29, 42, 180, 0, 32, 42]
abbrev dktX13_copy_0 : List UInt8 := dkwX13_copy_0 ++ dktX13_copy_1
theorem dksX13_copy_0 : cX13_copy.data.toList.drop 0 = dktX13_copy_0 := by decide +kernel
theorem dksX13_copy_1 : cX13_copy.data.toList.drop 22 = dktX13_copy_1 := dk_seg dksX13_copy_0 22 rfl rfl
theorem dX13_copy_0 : decode cX13_copy 0 = .ok (.new 8, 3) := dk_187 0 8 (dk_at dksX13_copy_0 0 rfl rfl)
theorem dX13_copy_3 : decode cX13_copy 3 = .ok (.dup, 1) := dk_89 (dk_at dksX13_copy_0 3 rfl rfl)
theorem dX13_copy_4 : decode cX13_copy 4 = .ok (.iload_n 1, 1) := dk_27 (dk_at dksX13_copy_0 4 rfl rfl)
theorem dX13_copy_5 : decode cX13_copy 5 = .ok (.aload_n 0, 1) := dk_42 (dk_at dksX13_copy_0 5 rfl rfl)
theorem dX13_copy_6 : decode cX13_copy 6 = .ok (.getfield 23, 3) := dk_180 0 23 (dk_at dksX13_copy_0 6 rfl rfl)
theorem dX13_copy_9 : decode cX13_copy 9 = .ok (.aload_n 0, 1) := dk_42 (dk_at dksX13_copy_0 9 rfl rfl)
theorem dX13_copy_10 : decode cX13_copy 10 = .ok (.getfield 26, 3) := dk_180 0 26 (dk_at dksX13_copy_0 10 rfl rfl)
theorem dX13_copy_13 : decode cX13_copy 13 = .ok (.aload_n 0, 1) := dk_42 (dk_at dksX13_copy_0 13 rfl rfl)
theorem dX13_copy_14 : decode cX13_copy 14 = .ok (.getfield 29, 3) := dk_180 0 29 (dk_at dksX13_copy_0 14 rfl rfl)
theorem dX13_copy_17 : decode cX13_copy 17 = .ok (.aload_n 0, 1) := dk_42 (dk_at dksX13_copy_0 17 rfl rfl)
theorem dX13_copy_18 : decode cX13_copy 18 = .ok (.getfield 32, 3) := dk_180 0 32 (dk_at dksX13_copy_0 18 rfl rfl)
theorem dX13_copy_21 : decode cX13_copy 21 = .ok (.aload_n 0, 1) := dk_42 (dk_at dksX13_copy_0 21 rfl rfl)
theorem dX13_copy_22 : decode cX13_copy 22 = .ok (.getfield 7, 3) := dk_180 0 7 (dk_at dksX13_copy_1 0 rfl rfl)
theorem dX13_copy_25 : decode cX13_copy 25 = .ok (.aload_n 0, 1) := dk_42 (dk_at dksX13_copy_1 3 rfl rfl)
theorem dX13_copy_26 : decode cX13_copy 26 = .ok (.getfield 13, 3) := dk_180 0 13 (dk_at dksX13_copy_1 4 rfl rfl)
theorem dX13_copy_29 : decode cX13_copy 29 = .ok (.aload_n 0, 1) := dk_42 (dk_at dksX13_copy_1 7 rfl rfl)
theorem dX13_copy_30 : decode cX13_copy 30 = .ok (.getfield 16, 3) := dk_180 0 16 (dk_at dksX13_copy_1 8 rfl rfl)
theorem dX13_copy_33 : decode cX13_copy 33 = .ok (.aload_n 0, 1) := dk_42 (dk_at dksX13_copy_1 11 rfl rfl)
theorem dX13_copy_34 : decode cX13_copy 34 = .ok (.getfield 20, 3) := dk_180 0 20 (dk_at dksX13_copy_1 12 rfl rfl)
theorem dX13_copy_37 : decode cX13_copy 37 = .ok (.invokespecial 35, 3) := dk_183 0 35 (dk_at dksX13_copy_1 15 rfl rfl)
theorem dX13_copy_40 : decode cX13_copy 40 = .ok (.areturn, 1) := dk_176 (dk_at dksX13_copy_1 18 rfl rfl)
theorem q76 : (Jvm.Cond.initialized "QuorumAlmanac$Append") ∈ lw_all := lw_g (lw_at lw_m1 32 rfl) rfl
theorem q455 : (Jvm.Cond.selects "QuorumAlmanac$Append" ({ cls := "java/lang/Object", name := "hashCode", desc := "()I" } : Jvm.MethodName) ({ cls := "java/lang/Object", name := "hashCode", desc := "()I" } : Jvm.MethodName)) ∈ lw_all := lw_g (lw_at lw_m2 171 rfl) rfl
theorem q560 : (Jvm.Cond.selects "QuorumAlmanac$Append" ({ cls := "java/lang/Object", name := "getClass", desc := "()Ljava/lang/Class;" } : Jvm.MethodName) ({ cls := "java/lang/Object", name := "getClass", desc := "()Ljava/lang/Class;" } : Jvm.MethodName)) ∈ lw_all := lw_g (lw_at lw_m3 36 rfl) rfl
theorem q639 : (Jvm.Cond.selects "QuorumAlmanac$Append" ({ cls := "java/lang/Object", name := "equals", desc := "(Ljava/lang/Object;)Z" } : Jvm.MethodName) ({ cls := "java/lang/Object", name := "equals", desc := "(Ljava/lang/Object;)Z" } : Jvm.MethodName)) ∈ lw_all := lw_g (lw_at lw_m3 115 rfl) rfl
theorem q1013 : (Jvm.Cond.fieldLink "QuorumAlmanac$Append" (32 : Nat) "QuorumAlmanac$Append" "round" "I") ∈ lw_all := lw_g (lw_at lw_m5 9 rfl) rfl
theorem q1014 : (Jvm.Cond.sameField "QuorumAlmanac$Append" "QuorumAlmanac$RoundMessage" "round" "I") ∈ lw_all := lw_g (lw_at lw_m5 10 rfl) rfl
theorem q1026 : (Jvm.Cond.fieldLink "QuorumAlmanac$Append" (23 : Nat) "QuorumAlmanac$Append" "from" "I") ∈ lw_all := lw_g (lw_at lw_m5 22 rfl) rfl
theorem q1027 : (Jvm.Cond.sameField "QuorumAlmanac$Append" "QuorumAlmanac$Message" "from" "I") ∈ lw_all := lw_g (lw_at lw_m5 23 rfl) rfl
theorem q1044 : (Jvm.Cond.fieldLink "QuorumAlmanac$Append" (26 : Nat) "QuorumAlmanac$Append" "to" "I") ∈ lw_all := lw_g (lw_at lw_m5 40 rfl) rfl
theorem q1045 : (Jvm.Cond.sameField "QuorumAlmanac$Append" "QuorumAlmanac$Message" "to" "I") ∈ lw_all := lw_g (lw_at lw_m5 41 rfl) rfl
theorem q1058 : (Jvm.Cond.fieldLink "QuorumAlmanac$Append" (29 : Nat) "QuorumAlmanac$Append" "term" "I") ∈ lw_all := lw_g (lw_at lw_m5 54 rfl) rfl
theorem q1059 : (Jvm.Cond.sameField "QuorumAlmanac$Append" "QuorumAlmanac$Message" "term" "I") ∈ lw_all := lw_g (lw_at lw_m5 55 rfl) rfl
theorem q1095 : (Jvm.Cond.instantiable "QuorumAlmanac$Append" (9 : Nat)) ∈ lw_all := lw_g (lw_at lw_m5 91 rfl) rfl
theorem q1098 : (Jvm.Cond.instanceMethod ({ cls := "QuorumAlmanac$Append", name := "<init>", desc := "(IIIIIIILjava/util/ArrayList;I)V" } : Jvm.MethodName)) ∈ lw_all := lw_g (lw_at lw_m5 94 rfl) rfl
theorem q1099 : (Jvm.Cond.code ({ cls := "QuorumAlmanac$Append", name := "<init>", desc := "(IIIIIIILjava/util/ArrayList;I)V" } : Jvm.MethodName) prog_3_method_1_code (10 : Nat) (Option.none : Option Jvm.ClassFile.FieldType)) ∈ lw_all := lw_g (lw_at lw_m5 95 rfl) rfl
theorem q1100 : (Jvm.Cond.methodLink "QuorumAlmanac$Append" (1 : Nat) ({ cls := "QuorumAlmanac$RoundMessage", name := "<init>", desc := "(IIIII)V" } : Jvm.MethodName)) ∈ lw_all := lw_g (lw_at lw_m5 96 rfl) rfl
theorem q1101 : (Jvm.Cond.fieldLink "QuorumAlmanac$Append" (7 : Nat) "QuorumAlmanac$Append" "ahead" "I") ∈ lw_all := lw_g (lw_at lw_m5 97 rfl) rfl
theorem q1103 : (Jvm.Cond.fieldLink "QuorumAlmanac$Append" (13 : Nat) "QuorumAlmanac$Append" "aheadTerm" "I") ∈ lw_all := lw_g (lw_at lw_m5 99 rfl) rfl
theorem q1105 : (Jvm.Cond.fieldLink "QuorumAlmanac$Append" (16 : Nat) "QuorumAlmanac$Append" "entries" "Ljava/util/ArrayList;") ∈ lw_all := lw_g (lw_at lw_m5 101 rfl) rfl
theorem q1107 : (Jvm.Cond.fieldLink "QuorumAlmanac$Append" (20 : Nat) "QuorumAlmanac$Append" "committed" "I") ∈ lw_all := lw_g (lw_at lw_m5 103 rfl) rfl
theorem q1109 : (Jvm.Cond.laysFinal "QuorumAlmanac$Append" "QuorumAlmanac$Append" "ahead" "I") ∈ lw_all := lw_g (lw_at lw_m5 105 rfl) rfl
theorem q1110 : (Jvm.Cond.soleField "QuorumAlmanac$Append" "ahead") ∈ lw_all := lw_g (lw_at lw_m5 106 rfl) rfl
theorem q1111 : (Jvm.Cond.laysFinal "QuorumAlmanac$Append" "QuorumAlmanac$Append" "aheadTerm" "I") ∈ lw_all := lw_g (lw_at lw_m5 107 rfl) rfl
theorem q1112 : (Jvm.Cond.soleField "QuorumAlmanac$Append" "aheadTerm") ∈ lw_all := lw_g (lw_at lw_m5 108 rfl) rfl
theorem q1113 : (Jvm.Cond.laysFinal "QuorumAlmanac$Append" "QuorumAlmanac$Append" "entries" "Ljava/util/ArrayList;") ∈ lw_all := lw_g (lw_at lw_m5 109 rfl) rfl
theorem q1114 : (Jvm.Cond.soleField "QuorumAlmanac$Append" "entries") ∈ lw_all := lw_g (lw_at lw_m5 110 rfl) rfl
theorem q1115 : (Jvm.Cond.laysFinal "QuorumAlmanac$Append" "QuorumAlmanac$Append" "committed" "I") ∈ lw_all := lw_g (lw_at lw_m5 111 rfl) rfl
theorem q1116 : (Jvm.Cond.soleField "QuorumAlmanac$Append" "committed") ∈ lw_all := lw_g (lw_at lw_m5 112 rfl) rfl
theorem q1117 : (Jvm.Cond.laysFinal "QuorumAlmanac$Append" "QuorumAlmanac$RoundMessage" "round" "I") ∈ lw_all := lw_g (lw_at lw_m5 113 rfl) rfl
theorem q1118 : (Jvm.Cond.laysFinal "QuorumAlmanac$Append" "QuorumAlmanac$Message" "number" "I") ∈ lw_all := lw_g (lw_at lw_m5 114 rfl) rfl
theorem q1119 : (Jvm.Cond.laysFinal "QuorumAlmanac$Append" "QuorumAlmanac$Message" "from" "I") ∈ lw_all := lw_g (lw_at lw_m5 115 rfl) rfl
theorem q1120 : (Jvm.Cond.laysFinal "QuorumAlmanac$Append" "QuorumAlmanac$Message" "to" "I") ∈ lw_all := lw_g (lw_at lw_m5 116 rfl) rfl
theorem q1121 : (Jvm.Cond.laysFinal "QuorumAlmanac$Append" "QuorumAlmanac$Message" "term" "I") ∈ lw_all := lw_g (lw_at lw_m5 117 rfl) rfl
theorem q1122 : (Jvm.Cond.superclass "QuorumAlmanac$Append" "QuorumAlmanac$RoundMessage") ∈ lw_all := lw_g (lw_at lw_m5 118 rfl) rfl
theorem q1517 : (Jvm.Cond.selects "QuorumAlmanac$Append" ({ cls := "QuorumAlmanac$Message", name := "kind", desc := "()C" } : Jvm.MethodName) ({ cls := "QuorumAlmanac$Append", name := "kind", desc := "()C" } : Jvm.MethodName)) ∈ lw_all := lw_g (lw_at lw_m7 33 rfl) rfl
theorem q1518 : (Jvm.Cond.instanceMethod ({ cls := "QuorumAlmanac$Append", name := "kind", desc := "()C" } : Jvm.MethodName)) ∈ lw_all := lw_g (lw_at lw_m7 34 rfl) rfl
theorem q1519 : (Jvm.Cond.code ({ cls := "QuorumAlmanac$Append", name := "kind", desc := "()C" } : Jvm.MethodName) prog_3_method_2_code (1 : Nat) (Option.some Jvm.ClassFile.FieldType.char)) ∈ lw_all := lw_g (lw_at lw_m7 35 rfl) rfl
theorem q1564 : (Jvm.Cond.selects "QuorumAlmanac$Append" ({ cls := "QuorumAlmanac$Message", name := "come", desc := "(LQuorumAlmanac$Node;)V" } : Jvm.MethodName) ({ cls := "QuorumAlmanac$Append", name := "come", desc := "(LQuorumAlmanac$Node;)V" } : Jvm.MethodName)) ∈ lw_all := lw_g (lw_at lw_m7 80 rfl) rfl
theorem q1565 : (Jvm.Cond.instanceMethod ({ cls := "QuorumAlmanac$Append", name := "come", desc := "(LQuorumAlmanac$Node;)V" } : Jvm.MethodName)) ∈ lw_all := lw_g (lw_at lw_m7 81 rfl) rfl
theorem q1566 : (Jvm.Cond.code ({ cls := "QuorumAlmanac$Append", name := "come", desc := "(LQuorumAlmanac$Node;)V" } : Jvm.MethodName) prog_3_method_4_code (2 : Nat) (Option.none : Option Jvm.ClassFile.FieldType)) ∈ lw_all := lw_g (lw_at lw_m7 82 rfl) rfl
theorem q1567 : (Jvm.Cond.methodLink "QuorumAlmanac$Append" (38 : Nat) ({ cls := "QuorumAlmanac$Append", name := "leads", desc := "(LQuorumAlmanac$Node;)Z" } : Jvm.MethodName)) ∈ lw_all := lw_g (lw_at lw_m7 83 rfl) rfl
theorem q1568 : (Jvm.Cond.sameMethod "QuorumAlmanac$Append" "QuorumAlmanac$RoundMessage" "leads" "(LQuorumAlmanac$Node;)Z") ∈ lw_all := lw_g (lw_at lw_m7 84 rfl) rfl
theorem q1570 : (Jvm.Cond.selects "QuorumAlmanac$Append" ({ cls := "QuorumAlmanac$Append", name := "leads", desc := "(LQuorumAlmanac$Node;)Z" } : Jvm.MethodName) ({ cls := "QuorumAlmanac$RoundMessage", name := "leads", desc := "(LQuorumAlmanac$Node;)Z" } : Jvm.MethodName)) ∈ lw_all := lw_g (lw_at lw_m7 86 rfl) rfl
theorem q1582 : (Jvm.Cond.methodLink "QuorumAlmanac$Append" (42 : Nat) ({ cls := "QuorumAlmanac$Node", name := "append", desc := "(LQuorumAlmanac$Append;)V" } : Jvm.MethodName)) ∈ lw_all := lw_g (lw_at lw_m7 98 rfl) rfl
theorem q1714 : (Jvm.Cond.selects "QuorumAlmanac$Append" ({ cls := "QuorumAlmanac$Message", name := "copy", desc := "(I)LQuorumAlmanac$Message;" } : Jvm.MethodName) ({ cls := "QuorumAlmanac$Append", name := "copy", desc := "(I)LQuorumAlmanac$Message;" } : Jvm.MethodName)) ∈ lw_all := lw_g (lw_at lw_m7 230 rfl) rfl
theorem q1715 : (Jvm.Cond.instanceMethod ({ cls := "QuorumAlmanac$Append", name := "copy", desc := "(I)LQuorumAlmanac$Message;" } : Jvm.MethodName)) ∈ lw_all := lw_g (lw_at lw_m7 231 rfl) rfl
theorem q1716 : (Jvm.Cond.code ({ cls := "QuorumAlmanac$Append", name := "copy", desc := "(I)LQuorumAlmanac$Message;" } : Jvm.MethodName) prog_3_method_3_code (2 : Nat) (Option.some (Jvm.ClassFile.FieldType.object "QuorumAlmanac$Message"))) ∈ lw_all := lw_g (lw_at lw_m7 232 rfl) rfl
theorem q1717 : (Jvm.Cond.classLink "QuorumAlmanac$Append" (8 : Nat) "QuorumAlmanac$Append") ∈ lw_all := lw_g (lw_at lw_m7 233 rfl) rfl
theorem q1718 : (Jvm.Cond.methodLink "QuorumAlmanac$Append" (35 : Nat) ({ cls := "QuorumAlmanac$Append", name := "<init>", desc := "(IIIIIIILjava/util/ArrayList;I)V" } : Jvm.MethodName)) ∈ lw_all := lw_g (lw_at lw_m7 234 rfl) rfl
theorem q2632 : (Jvm.Cond.castable "QuorumAlmanac$Append" "QuorumAlmanac$Message") ∈ lw_tbl := lw_at lw_m11 188 rfl
theorem q2653 : (Jvm.Cond.castable "QuorumAlmanac$Append" "java/lang/Object") ∈ lw_tbl := lw_at lw_m11 209 rfl
theorem in_X13 : ∀ w ∈ wsX130, w ∈ lw_all := lw_in wsX130 [1118, 1119, 1120, 1121, 1117, 1109, 1111, 1113, 1115] (by decide +kernel) (by decide +kernel)
/-! QuorumAlmanac$Wish -/
set_option maxRecDepth 100000
def RX14 : String := "QuorumAlmanac$Wish"
def TX14 : u_T := fun k => match k with
  | 0 => ("QuorumAlmanac$Message", "number", "I", true)
  | 1 => ("QuorumAlmanac$Message", "from", "I", true)
  | 2 => ("QuorumAlmanac$Message", "to", "I", true)
  | 3 => ("QuorumAlmanac$Message", "term", "I", true)
  | 4 => ("QuorumAlmanac$Wish", "lastIndex", "I", true)
  | _ => ("QuorumAlmanac$Wish", "lastTerm", "I", true)
def tyX14 : Nat → FieldType := fun k => match k with
  | 0 => .int
  | 1 => .int
  | 2 => .int
  | 3 => .int
  | 4 => .int
  | _ => .int
abbrev wsX140 : List Cond := u_ws RX14 TX14 6
theorem nmX14 : ∀ a, a < 6 → ∀ b, b < 6 → a ≠ b → (TX14 a).2.1 ≠ (TX14 b).2.1 := by decide +kernel
theorem tyX14_ok : ∀ k, k < 6 → parseFieldDescriptor (TX14 k).2.2.1 = some (tyX14 k) := by decide +kernel
abbrev cX14_init : ByteArray := prog_17_method_1_code
def yX14_init : MethodName := ⟨RX14, "<init>", "(IIIIII)V"⟩
def dkwX14_init_0 : List UInt8 := [42, 27, 28, 29, 21, 4, 183, 0, 1, 42, 21, 5, 181, 0, 7, 42, 21, 6, 181, 0, 13, 177]
abbrev dktX14_init_0 : List UInt8 := dkwX14_init_0 ++ []
theorem dksX14_init_0 : cX14_init.data.toList.drop 0 = dktX14_init_0 := by decide +kernel
theorem dX14_init_0 : decode cX14_init 0 = .ok (.aload_n 0, 1) := dk_42 (dk_at dksX14_init_0 0 rfl rfl)
theorem dX14_init_1 : decode cX14_init 1 = .ok (.iload_n 1, 1) := dk_27 (dk_at dksX14_init_0 1 rfl rfl)
theorem dX14_init_2 : decode cX14_init 2 = .ok (.iload_n 2, 1) := dk_28 (dk_at dksX14_init_0 2 rfl rfl)
theorem dX14_init_3 : decode cX14_init 3 = .ok (.iload_n 3, 1) := dk_29 (dk_at dksX14_init_0 3 rfl rfl)
theorem dX14_init_4 : decode cX14_init 4 = .ok (.iload 4, 2) := dk_21 4 (dk_at dksX14_init_0 4 rfl rfl)
theorem dX14_init_6 : decode cX14_init 6 = .ok (.invokespecial 1, 3) := dk_183 0 1 (dk_at dksX14_init_0 6 rfl rfl)
theorem dX14_init_9 : decode cX14_init 9 = .ok (.aload_n 0, 1) := dk_42 (dk_at dksX14_init_0 9 rfl rfl)
theorem dX14_init_10 : decode cX14_init 10 = .ok (.iload 5, 2) := dk_21 5 (dk_at dksX14_init_0 10 rfl rfl)
theorem dX14_init_12 : decode cX14_init 12 = .ok (.putfield 7, 3) := dk_181 0 7 (dk_at dksX14_init_0 12 rfl rfl)
theorem dX14_init_15 : decode cX14_init 15 = .ok (.aload_n 0, 1) := dk_42 (dk_at dksX14_init_0 15 rfl rfl)
theorem dX14_init_16 : decode cX14_init 16 = .ok (.iload 6, 2) := dk_21 6 (dk_at dksX14_init_0 16 rfl rfl)
theorem dX14_init_18 : decode cX14_init 18 = .ok (.putfield 13, 3) := dk_181 0 13 (dk_at dksX14_init_0 18 rfl rfl)
theorem dX14_init_21 : decode cX14_init 21 = .ok (.return_, 1) := dk_177 (dk_at dksX14_init_0 21 rfl rfl)
abbrev cX14_kind : ByteArray := prog_17_method_2_code
def yX14_kind : MethodName := ⟨RX14, "kind", "()C"⟩
theorem dX14_kind_0 : decode cX14_kind 0 = .ok (.bipush 118, 2) := by decide +kernel
theorem dX14_kind_2 : decode cX14_kind 2 = .ok (.ireturn, 1) := by decide +kernel
abbrev cX14_come : ByteArray := prog_17_method_4_code
def yX14_come : MethodName := ⟨RX14, "come", "(LQuorumAlmanac$Node;)V"⟩
def dkwX14_come_0 : List UInt8 := [43, 182, 0, 28, 154, 0, 13, 42, 43, 183, 0, 34, 43, 42, 182, 0, 38, 177]
abbrev dktX14_come_0 : List UInt8 := dkwX14_come_0 ++ []
theorem dksX14_come_0 : cX14_come.data.toList.drop 0 = dktX14_come_0 := by decide +kernel
theorem dX14_come_0 : decode cX14_come 0 = .ok (.aload_n 1, 1) := dk_43 (dk_at dksX14_come_0 0 rfl rfl)
theorem dX14_come_1 : decode cX14_come 1 = .ok (.invokevirtual 28, 3) := dk_182 0 28 (dk_at dksX14_come_0 1 rfl rfl)
theorem dX14_come_4 : decode cX14_come 4 = .ok (.ifCond .ne 13, 3) := dk_154 0 13 (dk_at dksX14_come_0 4 rfl rfl)
theorem dX14_come_7 : decode cX14_come 7 = .ok (.aload_n 0, 1) := dk_42 (dk_at dksX14_come_0 7 rfl rfl)
theorem dX14_come_8 : decode cX14_come 8 = .ok (.aload_n 1, 1) := dk_43 (dk_at dksX14_come_0 8 rfl rfl)
theorem dX14_come_9 : decode cX14_come 9 = .ok (.invokespecial 34, 3) := dk_183 0 34 (dk_at dksX14_come_0 9 rfl rfl)
theorem dX14_come_12 : decode cX14_come 12 = .ok (.aload_n 1, 1) := dk_43 (dk_at dksX14_come_0 12 rfl rfl)
theorem dX14_come_13 : decode cX14_come 13 = .ok (.aload_n 0, 1) := dk_42 (dk_at dksX14_come_0 13 rfl rfl)
theorem dX14_come_14 : decode cX14_come 14 = .ok (.invokevirtual 38, 3) := dk_182 0 38 (dk_at dksX14_come_0 14 rfl rfl)
theorem dX14_come_17 : decode cX14_come 17 = .ok (.return_, 1) := dk_177 (dk_at dksX14_come_0 17 rfl rfl)
abbrev cX14_copy : ByteArray := prog_17_method_3_code
def yX14_copy : MethodName := ⟨RX14, "copy", "(I)LQuorumAlmanac$Message;"⟩
def dkwX14_copy_1 : List UInt8 := [180, 0, 13, 183, 0, 25, 176]
abbrev dktX14_copy_1 : List UInt8 := dkwX14_copy_1 ++ []
def dkwX14_copy_0 : List UInt8 := [187, 0, 8, 89, 27, 42, 180, 0, 16, 42, 180, 0, 19, 42, 180, 0, 22, 42, 180, 0, 7, 42]
abbrev dktX14_copy_0 : List UInt8 := dkwX14_copy_0 ++ dktX14_copy_1
theorem dksX14_copy_0 : cX14_copy.data.toList.drop 0 = dktX14_copy_0 := by decide +kernel
theorem dksX14_copy_1 : cX14_copy.data.toList.drop 22 = dktX14_copy_1 := dk_seg dksX14_copy_0 22 rfl rfl
theorem dX14_copy_0 : decode cX14_copy 0 = .ok (.new 8, 3) := dk_187 0 8 (dk_at dksX14_copy_0 0 rfl rfl)
theorem dX14_copy_3 : decode cX14_copy 3 = .ok (.dup, 1) := dk_89 (dk_at dksX14_copy_0 3 rfl rfl)
theorem dX14_copy_4 : decode cX14_copy 4 = .ok (.iload_n 1, 1) := dk_27 (dk_at dksX14_copy_0 4 rfl rfl)
theorem dX14_copy_5 : decode cX14_copy 5 = .ok (.aload_n 0, 1) := dk_42 (dk_at dksX14_copy_0 5 rfl rfl)
theorem dX14_copy_6 : decode cX14_copy 6 = .ok (.getfield 16, 3) := dk_180 0 16 (dk_at dksX14_copy_0 6 rfl rfl)
theorem dX14_copy_9 : decode cX14_copy 9 = .ok (.aload_n 0, 1) := dk_42 (dk_at dksX14_copy_0 9 rfl rfl)
theorem dX14_copy_10 : decode cX14_copy 10 = .ok (.getfield 19, 3) := dk_180 0 19 (dk_at dksX14_copy_0 10 rfl rfl)
theorem dX14_copy_13 : decode cX14_copy 13 = .ok (.aload_n 0, 1) := dk_42 (dk_at dksX14_copy_0 13 rfl rfl)
theorem dX14_copy_14 : decode cX14_copy 14 = .ok (.getfield 22, 3) := dk_180 0 22 (dk_at dksX14_copy_0 14 rfl rfl)
theorem dX14_copy_17 : decode cX14_copy 17 = .ok (.aload_n 0, 1) := dk_42 (dk_at dksX14_copy_0 17 rfl rfl)
theorem dX14_copy_18 : decode cX14_copy 18 = .ok (.getfield 7, 3) := dk_180 0 7 (dk_at dksX14_copy_0 18 rfl rfl)
theorem dX14_copy_21 : decode cX14_copy 21 = .ok (.aload_n 0, 1) := dk_42 (dk_at dksX14_copy_0 21 rfl rfl)
theorem dX14_copy_22 : decode cX14_copy 22 = .ok (.getfield 13, 3) := dk_180 0 13 (dk_at dksX14_copy_1 0 rfl rfl)
theorem dX14_copy_25 : decode cX14_copy 25 = .ok (.invokespecial 25, 3) := dk_183 0 25 (dk_at dksX14_copy_1 3 rfl rfl)
theorem dX14_copy_28 : decode cX14_copy 28 = .ok (.areturn, 1) := dk_176 (dk_at dksX14_copy_1 6 rfl rfl)
theorem q79 : (Jvm.Cond.initialized "QuorumAlmanac$Wish") ∈ lw_all := lw_g (lw_at lw_m1 35 rfl) rfl
theorem q469 : (Jvm.Cond.selects "QuorumAlmanac$Wish" ({ cls := "java/lang/Object", name := "hashCode", desc := "()I" } : Jvm.MethodName) ({ cls := "java/lang/Object", name := "hashCode", desc := "()I" } : Jvm.MethodName)) ∈ lw_all := lw_g (lw_at lw_m2 185 rfl) rfl
theorem q571 : (Jvm.Cond.selects "QuorumAlmanac$Wish" ({ cls := "java/lang/Object", name := "getClass", desc := "()Ljava/lang/Class;" } : Jvm.MethodName) ({ cls := "java/lang/Object", name := "getClass", desc := "()Ljava/lang/Class;" } : Jvm.MethodName)) ∈ lw_all := lw_g (lw_at lw_m3 47 rfl) rfl
theorem q653 : (Jvm.Cond.selects "QuorumAlmanac$Wish" ({ cls := "java/lang/Object", name := "equals", desc := "(Ljava/lang/Object;)Z" } : Jvm.MethodName) ({ cls := "java/lang/Object", name := "equals", desc := "(Ljava/lang/Object;)Z" } : Jvm.MethodName)) ∈ lw_all := lw_g (lw_at lw_m3 129 rfl) rfl
theorem q1032 : (Jvm.Cond.fieldLink "QuorumAlmanac$Wish" (16 : Nat) "QuorumAlmanac$Wish" "from" "I") ∈ lw_all := lw_g (lw_at lw_m5 28 rfl) rfl
theorem q1033 : (Jvm.Cond.sameField "QuorumAlmanac$Wish" "QuorumAlmanac$Message" "from" "I") ∈ lw_all := lw_g (lw_at lw_m5 29 rfl) rfl
theorem q1050 : (Jvm.Cond.fieldLink "QuorumAlmanac$Wish" (19 : Nat) "QuorumAlmanac$Wish" "to" "I") ∈ lw_all := lw_g (lw_at lw_m5 46 rfl) rfl
theorem q1051 : (Jvm.Cond.sameField "QuorumAlmanac$Wish" "QuorumAlmanac$Message" "to" "I") ∈ lw_all := lw_g (lw_at lw_m5 47 rfl) rfl
theorem q1064 : (Jvm.Cond.fieldLink "QuorumAlmanac$Wish" (22 : Nat) "QuorumAlmanac$Wish" "term" "I") ∈ lw_all := lw_g (lw_at lw_m5 60 rfl) rfl
theorem q1065 : (Jvm.Cond.sameField "QuorumAlmanac$Wish" "QuorumAlmanac$Message" "term" "I") ∈ lw_all := lw_g (lw_at lw_m5 61 rfl) rfl
theorem q1227 : (Jvm.Cond.instantiable "QuorumAlmanac$Wish" (6 : Nat)) ∈ lw_all := lw_g (lw_at lw_m5 223 rfl) rfl
theorem q1229 : (Jvm.Cond.instanceMethod ({ cls := "QuorumAlmanac$Wish", name := "<init>", desc := "(IIIIII)V" } : Jvm.MethodName)) ∈ lw_all := lw_g (lw_at lw_m5 225 rfl) rfl
theorem q1230 : (Jvm.Cond.code ({ cls := "QuorumAlmanac$Wish", name := "<init>", desc := "(IIIIII)V" } : Jvm.MethodName) prog_17_method_1_code (7 : Nat) (Option.none : Option Jvm.ClassFile.FieldType)) ∈ lw_all := lw_g (lw_at lw_m5 226 rfl) rfl
theorem q1231 : (Jvm.Cond.methodLink "QuorumAlmanac$Wish" (1 : Nat) ({ cls := "QuorumAlmanac$Message", name := "<init>", desc := "(IIII)V" } : Jvm.MethodName)) ∈ lw_all := lw_g (lw_at lw_m5 227 rfl) rfl
theorem q1232 : (Jvm.Cond.fieldLink "QuorumAlmanac$Wish" (7 : Nat) "QuorumAlmanac$Wish" "lastIndex" "I") ∈ lw_all := lw_g (lw_at lw_m5 228 rfl) rfl
theorem q1234 : (Jvm.Cond.fieldLink "QuorumAlmanac$Wish" (13 : Nat) "QuorumAlmanac$Wish" "lastTerm" "I") ∈ lw_all := lw_g (lw_at lw_m5 230 rfl) rfl
theorem q1236 : (Jvm.Cond.laysFinal "QuorumAlmanac$Wish" "QuorumAlmanac$Wish" "lastIndex" "I") ∈ lw_all := lw_g (lw_at lw_m5 232 rfl) rfl
theorem q1237 : (Jvm.Cond.soleField "QuorumAlmanac$Wish" "lastIndex") ∈ lw_all := lw_g (lw_at lw_m5 233 rfl) rfl
theorem q1238 : (Jvm.Cond.laysFinal "QuorumAlmanac$Wish" "QuorumAlmanac$Wish" "lastTerm" "I") ∈ lw_all := lw_g (lw_at lw_m5 234 rfl) rfl
theorem q1239 : (Jvm.Cond.soleField "QuorumAlmanac$Wish" "lastTerm") ∈ lw_all := lw_g (lw_at lw_m5 235 rfl) rfl
theorem q1240 : (Jvm.Cond.laysFinal "QuorumAlmanac$Wish" "QuorumAlmanac$Message" "number" "I") ∈ lw_all := lw_g (lw_at lw_m5 236 rfl) rfl
theorem q1241 : (Jvm.Cond.laysFinal "QuorumAlmanac$Wish" "QuorumAlmanac$Message" "from" "I") ∈ lw_all := lw_g (lw_at lw_m5 237 rfl) rfl
theorem q1242 : (Jvm.Cond.laysFinal "QuorumAlmanac$Wish" "QuorumAlmanac$Message" "to" "I") ∈ lw_all := lw_g (lw_at lw_m5 238 rfl) rfl
theorem q1243 : (Jvm.Cond.laysFinal "QuorumAlmanac$Wish" "QuorumAlmanac$Message" "term" "I") ∈ lw_all := lw_g (lw_at lw_m5 239 rfl) rfl
theorem q1244 : (Jvm.Cond.superclass "QuorumAlmanac$Wish" "QuorumAlmanac$Message") ∈ lw_all := lw_g (lw_at lw_m6 0 rfl) rfl
theorem q1526 : (Jvm.Cond.selects "QuorumAlmanac$Wish" ({ cls := "QuorumAlmanac$Message", name := "kind", desc := "()C" } : Jvm.MethodName) ({ cls := "QuorumAlmanac$Wish", name := "kind", desc := "()C" } : Jvm.MethodName)) ∈ lw_all := lw_g (lw_at lw_m7 42 rfl) rfl
theorem q1527 : (Jvm.Cond.instanceMethod ({ cls := "QuorumAlmanac$Wish", name := "kind", desc := "()C" } : Jvm.MethodName)) ∈ lw_all := lw_g (lw_at lw_m7 43 rfl) rfl
theorem q1528 : (Jvm.Cond.code ({ cls := "QuorumAlmanac$Wish", name := "kind", desc := "()C" } : Jvm.MethodName) prog_17_method_2_code (1 : Nat) (Option.some Jvm.ClassFile.FieldType.char)) ∈ lw_all := lw_g (lw_at lw_m7 44 rfl) rfl
theorem q1658 : (Jvm.Cond.selects "QuorumAlmanac$Wish" ({ cls := "QuorumAlmanac$Message", name := "come", desc := "(LQuorumAlmanac$Node;)V" } : Jvm.MethodName) ({ cls := "QuorumAlmanac$Wish", name := "come", desc := "(LQuorumAlmanac$Node;)V" } : Jvm.MethodName)) ∈ lw_all := lw_g (lw_at lw_m7 174 rfl) rfl
theorem q1659 : (Jvm.Cond.instanceMethod ({ cls := "QuorumAlmanac$Wish", name := "come", desc := "(LQuorumAlmanac$Node;)V" } : Jvm.MethodName)) ∈ lw_all := lw_g (lw_at lw_m7 175 rfl) rfl
theorem q1660 : (Jvm.Cond.code ({ cls := "QuorumAlmanac$Wish", name := "come", desc := "(LQuorumAlmanac$Node;)V" } : Jvm.MethodName) prog_17_method_4_code (2 : Nat) (Option.none : Option Jvm.ClassFile.FieldType)) ∈ lw_all := lw_g (lw_at lw_m7 176 rfl) rfl
theorem q1661 : (Jvm.Cond.methodLink "QuorumAlmanac$Wish" (28 : Nat) ({ cls := "QuorumAlmanac$Node", name := "isBound", desc := "()Z" } : Jvm.MethodName)) ∈ lw_all := lw_g (lw_at lw_m7 177 rfl) rfl
theorem q1673 : (Jvm.Cond.methodLink "QuorumAlmanac$Wish" (34 : Nat) ({ cls := "QuorumAlmanac$Message", name := "come", desc := "(LQuorumAlmanac$Node;)V" } : Jvm.MethodName)) ∈ lw_all := lw_g (lw_at lw_m7 189 rfl) rfl
theorem q1674 : (Jvm.Cond.methodLink "QuorumAlmanac$Wish" (38 : Nat) ({ cls := "QuorumAlmanac$Node", name := "answerWish", desc := "(LQuorumAlmanac$Wish;)V" } : Jvm.MethodName)) ∈ lw_all := lw_g (lw_at lw_m7 190 rfl) rfl
theorem q1729 : (Jvm.Cond.selects "QuorumAlmanac$Wish" ({ cls := "QuorumAlmanac$Message", name := "copy", desc := "(I)LQuorumAlmanac$Message;" } : Jvm.MethodName) ({ cls := "QuorumAlmanac$Wish", name := "copy", desc := "(I)LQuorumAlmanac$Message;" } : Jvm.MethodName)) ∈ lw_all := lw_g (lw_at lw_m8 5 rfl) rfl
theorem q1730 : (Jvm.Cond.instanceMethod ({ cls := "QuorumAlmanac$Wish", name := "copy", desc := "(I)LQuorumAlmanac$Message;" } : Jvm.MethodName)) ∈ lw_all := lw_g (lw_at lw_m8 6 rfl) rfl
theorem q1731 : (Jvm.Cond.code ({ cls := "QuorumAlmanac$Wish", name := "copy", desc := "(I)LQuorumAlmanac$Message;" } : Jvm.MethodName) prog_17_method_3_code (2 : Nat) (Option.some (Jvm.ClassFile.FieldType.object "QuorumAlmanac$Message"))) ∈ lw_all := lw_g (lw_at lw_m8 7 rfl) rfl
theorem q1732 : (Jvm.Cond.classLink "QuorumAlmanac$Wish" (8 : Nat) "QuorumAlmanac$Wish") ∈ lw_all := lw_g (lw_at lw_m8 8 rfl) rfl
theorem q1733 : (Jvm.Cond.methodLink "QuorumAlmanac$Wish" (25 : Nat) ({ cls := "QuorumAlmanac$Wish", name := "<init>", desc := "(IIIIII)V" } : Jvm.MethodName)) ∈ lw_all := lw_g (lw_at lw_m8 9 rfl) rfl
theorem q2635 : (Jvm.Cond.castable "QuorumAlmanac$Wish" "QuorumAlmanac$Message") ∈ lw_tbl := lw_at lw_m11 191 rfl
theorem q2656 : (Jvm.Cond.castable "QuorumAlmanac$Wish" "java/lang/Object") ∈ lw_tbl := lw_at lw_m11 212 rfl
theorem in_X14 : ∀ w ∈ wsX140, w ∈ lw_all := lw_in wsX140 [1240, 1241, 1242, 1243, 1236, 1238] (by decide +kernel) (by decide +kernel)
/-! QuorumAlmanac$Entry -/
set_option maxRecDepth 100000
def RX15 : String := "QuorumAlmanac$Entry"
def TX15 : u_T := fun k => match k with
  | 0 => ("QuorumAlmanac$Entry", "term", "I", true)
  | 1 => ("QuorumAlmanac$Entry", "kind", "C", true)
  | 2 => ("QuorumAlmanac$Entry", "first", "I", true)
  | _ => ("QuorumAlmanac$Entry", "second", "I", true)
def tyX15 : Nat → FieldType := fun k => match k with
  | 0 => .int
  | 1 => .char
  | 2 => .int
  | _ => .int
abbrev wsX150 : List Cond := u_ws RX15 TX15 4
theorem nmX15 : ∀ a, a < 4 → ∀ b, b < 4 → a ≠ b → (TX15 a).2.1 ≠ (TX15 b).2.1 := by decide +kernel
theorem tyX15_ok : ∀ k, k < 4 → parseFieldDescriptor (TX15 k).2.2.1 = some (tyX15 k) := by decide +kernel
abbrev cX15_isLike : ByteArray := prog_4_method_2_code
def yX15_isLike : MethodName := ⟨RX15, "isLike", "(LQuorumAlmanac$Entry;)Z"⟩
def dkwX15_isLike_2 : List UInt8 := [167, 0, 4, 3, 172]
abbrev dktX15_isLike_2 : List UInt8 := dkwX15_isLike_2 ++ []
def dkwX15_isLike_1 : List UInt8 := [180, 0, 17, 43, 180, 0, 17, 160, 0, 18, 42, 180, 0, 20, 43, 180, 0, 20, 160, 0, 7, 4]
abbrev dktX15_isLike_1 : List UInt8 := dkwX15_isLike_1 ++ dktX15_isLike_2
def dkwX15_isLike_0 : List UInt8 := [42, 180, 0, 7, 43, 180, 0, 7, 160, 0, 40, 42, 180, 0, 13, 43, 180, 0, 13, 160, 0, 29, 42]
abbrev dktX15_isLike_0 : List UInt8 := dkwX15_isLike_0 ++ dktX15_isLike_1
theorem dksX15_isLike_0 : cX15_isLike.data.toList.drop 0 = dktX15_isLike_0 := by decide +kernel
theorem dksX15_isLike_1 : cX15_isLike.data.toList.drop 23 = dktX15_isLike_1 := dk_seg dksX15_isLike_0 23 rfl rfl
theorem dksX15_isLike_2 : cX15_isLike.data.toList.drop 45 = dktX15_isLike_2 := dk_seg dksX15_isLike_1 22 rfl rfl
theorem dX15_isLike_0 : decode cX15_isLike 0 = .ok (.aload_n 0, 1) := dk_42 (dk_at dksX15_isLike_0 0 rfl rfl)
theorem dX15_isLike_1 : decode cX15_isLike 1 = .ok (.getfield 7, 3) := dk_180 0 7 (dk_at dksX15_isLike_0 1 rfl rfl)
theorem dX15_isLike_4 : decode cX15_isLike 4 = .ok (.aload_n 1, 1) := dk_43 (dk_at dksX15_isLike_0 4 rfl rfl)
theorem dX15_isLike_5 : decode cX15_isLike 5 = .ok (.getfield 7, 3) := dk_180 0 7 (dk_at dksX15_isLike_0 5 rfl rfl)
theorem dX15_isLike_8 : decode cX15_isLike 8 = .ok (.if_icmp .ne 40, 3) := dk_160 0 40 (dk_at dksX15_isLike_0 8 rfl rfl)
theorem dX15_isLike_11 : decode cX15_isLike 11 = .ok (.aload_n 0, 1) := dk_42 (dk_at dksX15_isLike_0 11 rfl rfl)
theorem dX15_isLike_12 : decode cX15_isLike 12 = .ok (.getfield 13, 3) := dk_180 0 13 (dk_at dksX15_isLike_0 12 rfl rfl)
theorem dX15_isLike_15 : decode cX15_isLike 15 = .ok (.aload_n 1, 1) := dk_43 (dk_at dksX15_isLike_0 15 rfl rfl)
theorem dX15_isLike_16 : decode cX15_isLike 16 = .ok (.getfield 13, 3) := dk_180 0 13 (dk_at dksX15_isLike_0 16 rfl rfl)
theorem dX15_isLike_19 : decode cX15_isLike 19 = .ok (.if_icmp .ne 29, 3) := dk_160 0 29 (dk_at dksX15_isLike_0 19 rfl rfl)
theorem dX15_isLike_22 : decode cX15_isLike 22 = .ok (.aload_n 0, 1) := dk_42 (dk_at dksX15_isLike_0 22 rfl rfl)
theorem dX15_isLike_23 : decode cX15_isLike 23 = .ok (.getfield 17, 3) := dk_180 0 17 (dk_at dksX15_isLike_1 0 rfl rfl)
theorem dX15_isLike_26 : decode cX15_isLike 26 = .ok (.aload_n 1, 1) := dk_43 (dk_at dksX15_isLike_1 3 rfl rfl)
theorem dX15_isLike_27 : decode cX15_isLike 27 = .ok (.getfield 17, 3) := dk_180 0 17 (dk_at dksX15_isLike_1 4 rfl rfl)
theorem dX15_isLike_30 : decode cX15_isLike 30 = .ok (.if_icmp .ne 18, 3) := dk_160 0 18 (dk_at dksX15_isLike_1 7 rfl rfl)
theorem dX15_isLike_33 : decode cX15_isLike 33 = .ok (.aload_n 0, 1) := dk_42 (dk_at dksX15_isLike_1 10 rfl rfl)
theorem dX15_isLike_34 : decode cX15_isLike 34 = .ok (.getfield 20, 3) := dk_180 0 20 (dk_at dksX15_isLike_1 11 rfl rfl)
theorem dX15_isLike_37 : decode cX15_isLike 37 = .ok (.aload_n 1, 1) := dk_43 (dk_at dksX15_isLike_1 14 rfl rfl)
theorem dX15_isLike_38 : decode cX15_isLike 38 = .ok (.getfield 20, 3) := dk_180 0 20 (dk_at dksX15_isLike_1 15 rfl rfl)
theorem dX15_isLike_41 : decode cX15_isLike 41 = .ok (.if_icmp .ne 7, 3) := dk_160 0 7 (dk_at dksX15_isLike_1 18 rfl rfl)
theorem dX15_isLike_44 : decode cX15_isLike 44 = .ok (.iconst 1, 1) := dk_4 (dk_at dksX15_isLike_1 21 rfl rfl)
theorem dX15_isLike_45 : decode cX15_isLike 45 = .ok (.goto 4, 3) := dk_167 0 4 (dk_at dksX15_isLike_2 0 rfl rfl)
theorem dX15_isLike_48 : decode cX15_isLike 48 = .ok (.iconst 0, 1) := dk_3 (dk_at dksX15_isLike_2 3 rfl rfl)
theorem dX15_isLike_49 : decode cX15_isLike 49 = .ok (.ireturn, 1) := dk_172 (dk_at dksX15_isLike_2 4 rfl rfl)
abbrev cX15_init : ByteArray := prog_4_method_1_code
def yX15_init : MethodName := ⟨RX15, "<init>", "(ICII)V"⟩
def dkwX15_init_1 : List UInt8 := [181, 0, 20, 177]
abbrev dktX15_init_1 : List UInt8 := dkwX15_init_1 ++ []
def dkwX15_init_0 : List UInt8 := [42, 183, 0, 1, 42, 27, 181, 0, 7, 42, 28, 181, 0, 13, 42, 29, 181, 0, 17, 42, 21, 4]
abbrev dktX15_init_0 : List UInt8 := dkwX15_init_0 ++ dktX15_init_1
theorem dksX15_init_0 : cX15_init.data.toList.drop 0 = dktX15_init_0 := by decide +kernel
theorem dksX15_init_1 : cX15_init.data.toList.drop 22 = dktX15_init_1 := dk_seg dksX15_init_0 22 rfl rfl
theorem dX15_init_0 : decode cX15_init 0 = .ok (.aload_n 0, 1) := dk_42 (dk_at dksX15_init_0 0 rfl rfl)
theorem dX15_init_1 : decode cX15_init 1 = .ok (.invokespecial 1, 3) := dk_183 0 1 (dk_at dksX15_init_0 1 rfl rfl)
theorem dX15_init_4 : decode cX15_init 4 = .ok (.aload_n 0, 1) := dk_42 (dk_at dksX15_init_0 4 rfl rfl)
theorem dX15_init_5 : decode cX15_init 5 = .ok (.iload_n 1, 1) := dk_27 (dk_at dksX15_init_0 5 rfl rfl)
theorem dX15_init_6 : decode cX15_init 6 = .ok (.putfield 7, 3) := dk_181 0 7 (dk_at dksX15_init_0 6 rfl rfl)
theorem dX15_init_9 : decode cX15_init 9 = .ok (.aload_n 0, 1) := dk_42 (dk_at dksX15_init_0 9 rfl rfl)
theorem dX15_init_10 : decode cX15_init 10 = .ok (.iload_n 2, 1) := dk_28 (dk_at dksX15_init_0 10 rfl rfl)
theorem dX15_init_11 : decode cX15_init 11 = .ok (.putfield 13, 3) := dk_181 0 13 (dk_at dksX15_init_0 11 rfl rfl)
theorem dX15_init_14 : decode cX15_init 14 = .ok (.aload_n 0, 1) := dk_42 (dk_at dksX15_init_0 14 rfl rfl)
theorem dX15_init_15 : decode cX15_init 15 = .ok (.iload_n 3, 1) := dk_29 (dk_at dksX15_init_0 15 rfl rfl)
theorem dX15_init_16 : decode cX15_init 16 = .ok (.putfield 17, 3) := dk_181 0 17 (dk_at dksX15_init_0 16 rfl rfl)
theorem dX15_init_19 : decode cX15_init 19 = .ok (.aload_n 0, 1) := dk_42 (dk_at dksX15_init_0 19 rfl rfl)
theorem dX15_init_20 : decode cX15_init 20 = .ok (.iload 4, 2) := dk_21 4 (dk_at dksX15_init_0 20 rfl rfl)
theorem dX15_init_22 : decode cX15_init 22 = .ok (.putfield 20, 3) := dk_181 0 20 (dk_at dksX15_init_1 0 rfl rfl)
theorem dX15_init_25 : decode cX15_init 25 = .ok (.return_, 1) := dk_177 (dk_at dksX15_init_1 3 rfl rfl)
theorem q80 : (Jvm.Cond.initialized "QuorumAlmanac$Entry") ∈ lw_all := lw_g (lw_at lw_m1 36 rfl) rfl
theorem q456 : (Jvm.Cond.selects "QuorumAlmanac$Entry" ({ cls := "java/lang/Object", name := "hashCode", desc := "()I" } : Jvm.MethodName) ({ cls := "java/lang/Object", name := "hashCode", desc := "()I" } : Jvm.MethodName)) ∈ lw_all := lw_g (lw_at lw_m2 172 rfl) rfl
theorem q561 : (Jvm.Cond.selects "QuorumAlmanac$Entry" ({ cls := "java/lang/Object", name := "getClass", desc := "()Ljava/lang/Class;" } : Jvm.MethodName) ({ cls := "java/lang/Object", name := "getClass", desc := "()Ljava/lang/Class;" } : Jvm.MethodName)) ∈ lw_all := lw_g (lw_at lw_m3 37 rfl) rfl
theorem q640 : (Jvm.Cond.selects "QuorumAlmanac$Entry" ({ cls := "java/lang/Object", name := "equals", desc := "(Ljava/lang/Object;)Z" } : Jvm.MethodName) ({ cls := "java/lang/Object", name := "equals", desc := "(Ljava/lang/Object;)Z" } : Jvm.MethodName)) ∈ lw_all := lw_g (lw_at lw_m3 116 rfl) rfl
theorem q769 : (Jvm.Cond.instanceMethod ({ cls := "QuorumAlmanac$Entry", name := "isLike", desc := "(LQuorumAlmanac$Entry;)Z" } : Jvm.MethodName)) ∈ lw_all := lw_g (lw_at lw_m4 5 rfl) rfl
theorem q770 : (Jvm.Cond.selects "QuorumAlmanac$Entry" ({ cls := "QuorumAlmanac$Entry", name := "isLike", desc := "(LQuorumAlmanac$Entry;)Z" } : Jvm.MethodName) ({ cls := "QuorumAlmanac$Entry", name := "isLike", desc := "(LQuorumAlmanac$Entry;)Z" } : Jvm.MethodName)) ∈ lw_all := lw_g (lw_at lw_m4 6 rfl) rfl
theorem q771 : (Jvm.Cond.code ({ cls := "QuorumAlmanac$Entry", name := "isLike", desc := "(LQuorumAlmanac$Entry;)Z" } : Jvm.MethodName) prog_4_method_2_code (2 : Nat) (Option.some Jvm.ClassFile.FieldType.boolean)) ∈ lw_all := lw_g (lw_at lw_m4 7 rfl) rfl
theorem q1253 : (Jvm.Cond.instantiable "QuorumAlmanac$Entry" (4 : Nat)) ∈ lw_all := lw_g (lw_at lw_m6 9 rfl) rfl
theorem q1255 : (Jvm.Cond.instanceMethod ({ cls := "QuorumAlmanac$Entry", name := "<init>", desc := "(ICII)V" } : Jvm.MethodName)) ∈ lw_all := lw_g (lw_at lw_m6 11 rfl) rfl
theorem q1256 : (Jvm.Cond.code ({ cls := "QuorumAlmanac$Entry", name := "<init>", desc := "(ICII)V" } : Jvm.MethodName) prog_4_method_1_code (5 : Nat) (Option.none : Option Jvm.ClassFile.FieldType)) ∈ lw_all := lw_g (lw_at lw_m6 12 rfl) rfl
theorem q1257 : (Jvm.Cond.methodLink "QuorumAlmanac$Entry" (1 : Nat) ({ cls := "java/lang/Object", name := "<init>", desc := "()V" } : Jvm.MethodName)) ∈ lw_all := lw_g (lw_at lw_m6 13 rfl) rfl
theorem q1258 : (Jvm.Cond.fieldLink "QuorumAlmanac$Entry" (7 : Nat) "QuorumAlmanac$Entry" "term" "I") ∈ lw_all := lw_g (lw_at lw_m6 14 rfl) rfl
theorem q1261 : (Jvm.Cond.fieldLink "QuorumAlmanac$Entry" (13 : Nat) "QuorumAlmanac$Entry" "kind" "C") ∈ lw_all := lw_g (lw_at lw_m6 17 rfl) rfl
theorem q1265 : (Jvm.Cond.fieldLink "QuorumAlmanac$Entry" (17 : Nat) "QuorumAlmanac$Entry" "first" "I") ∈ lw_all := lw_g (lw_at lw_m6 21 rfl) rfl
theorem q1268 : (Jvm.Cond.fieldLink "QuorumAlmanac$Entry" (20 : Nat) "QuorumAlmanac$Entry" "second" "I") ∈ lw_all := lw_g (lw_at lw_m6 24 rfl) rfl
theorem q1271 : (Jvm.Cond.laysFinal "QuorumAlmanac$Entry" "QuorumAlmanac$Entry" "term" "I") ∈ lw_all := lw_g (lw_at lw_m6 27 rfl) rfl
theorem q1272 : (Jvm.Cond.soleField "QuorumAlmanac$Entry" "term") ∈ lw_all := lw_g (lw_at lw_m6 28 rfl) rfl
theorem q1273 : (Jvm.Cond.laysFinal "QuorumAlmanac$Entry" "QuorumAlmanac$Entry" "kind" "C") ∈ lw_all := lw_g (lw_at lw_m6 29 rfl) rfl
theorem q1274 : (Jvm.Cond.soleField "QuorumAlmanac$Entry" "kind") ∈ lw_all := lw_g (lw_at lw_m6 30 rfl) rfl
theorem q1275 : (Jvm.Cond.laysFinal "QuorumAlmanac$Entry" "QuorumAlmanac$Entry" "first" "I") ∈ lw_all := lw_g (lw_at lw_m6 31 rfl) rfl
theorem q1276 : (Jvm.Cond.soleField "QuorumAlmanac$Entry" "first") ∈ lw_all := lw_g (lw_at lw_m6 32 rfl) rfl
theorem q1277 : (Jvm.Cond.laysFinal "QuorumAlmanac$Entry" "QuorumAlmanac$Entry" "second" "I") ∈ lw_all := lw_g (lw_at lw_m6 33 rfl) rfl
theorem q1278 : (Jvm.Cond.soleField "QuorumAlmanac$Entry" "second") ∈ lw_all := lw_g (lw_at lw_m6 34 rfl) rfl
theorem q1279 : (Jvm.Cond.superclass "QuorumAlmanac$Entry" "java/lang/Object") ∈ lw_all := lw_g (lw_at lw_m6 35 rfl) rfl
theorem q2657 : (Jvm.Cond.castable "QuorumAlmanac$Entry" "java/lang/Object") ∈ lw_tbl := lw_at lw_m11 213 rfl
theorem in_X15 : ∀ w ∈ wsX150, w ∈ lw_all := lw_in wsX150 [1271, 1273, 1275, 1277] (by decide +kernel) (by decide +kernel)
/-! QuorumAlmanac$Answer -/
set_option maxRecDepth 100000
def RX18 : String := "QuorumAlmanac$Answer"
def TX18 : u_T := fun k => match k with
  | 0 => ("QuorumAlmanac$Message", "number", "I", true)
  | 1 => ("QuorumAlmanac$Message", "from", "I", true)
  | 2 => ("QuorumAlmanac$Message", "to", "I", true)
  | 3 => ("QuorumAlmanac$Message", "term", "I", true)
  | 4 => ("QuorumAlmanac$RoundMessage", "round", "I", true)
  | 5 => ("QuorumAlmanac$Answer", "how", "C", true)
  | _ => ("QuorumAlmanac$Answer", "index", "I", true)
def tyX18 : Nat → FieldType := fun k => match k with
  | 0 => .int
  | 1 => .int
  | 2 => .int
  | 3 => .int
  | 4 => .int
  | 5 => .char
  | _ => .int
abbrev wsX180 : List Cond := u_ws RX18 TX18 7
theorem nmX18 : ∀ a, a < 7 → ∀ b, b < 7 → a ≠ b → (TX18 a).2.1 ≠ (TX18 b).2.1 := by decide +kernel
theorem tyX18_ok : ∀ k, k < 7 → parseFieldDescriptor (TX18 k).2.2.1 = some (tyX18 k) := by decide +kernel
abbrev cX18_init : ByteArray := prog_2_method_1_code
def yX18_init : MethodName := ⟨RX18, "<init>", "(IIIIICI)V"⟩
def dkwX18_init_0 : List UInt8 := [42, 27, 28, 29, 21, 4, 21, 5, 183, 0, 1, 42, 21, 6, 181, 0, 7, 42, 21, 7, 181, 0, 13, 177]
abbrev dktX18_init_0 : List UInt8 := dkwX18_init_0 ++ []
theorem dksX18_init_0 : cX18_init.data.toList.drop 0 = dktX18_init_0 := by decide +kernel
theorem dX18_init_0 : decode cX18_init 0 = .ok (.aload_n 0, 1) := dk_42 (dk_at dksX18_init_0 0 rfl rfl)
theorem dX18_init_1 : decode cX18_init 1 = .ok (.iload_n 1, 1) := dk_27 (dk_at dksX18_init_0 1 rfl rfl)
theorem dX18_init_2 : decode cX18_init 2 = .ok (.iload_n 2, 1) := dk_28 (dk_at dksX18_init_0 2 rfl rfl)
theorem dX18_init_3 : decode cX18_init 3 = .ok (.iload_n 3, 1) := dk_29 (dk_at dksX18_init_0 3 rfl rfl)
theorem dX18_init_4 : decode cX18_init 4 = .ok (.iload 4, 2) := dk_21 4 (dk_at dksX18_init_0 4 rfl rfl)
theorem dX18_init_6 : decode cX18_init 6 = .ok (.iload 5, 2) := dk_21 5 (dk_at dksX18_init_0 6 rfl rfl)
theorem dX18_init_8 : decode cX18_init 8 = .ok (.invokespecial 1, 3) := dk_183 0 1 (dk_at dksX18_init_0 8 rfl rfl)
theorem dX18_init_11 : decode cX18_init 11 = .ok (.aload_n 0, 1) := dk_42 (dk_at dksX18_init_0 11 rfl rfl)
theorem dX18_init_12 : decode cX18_init 12 = .ok (.iload 6, 2) := dk_21 6 (dk_at dksX18_init_0 12 rfl rfl)
theorem dX18_init_14 : decode cX18_init 14 = .ok (.putfield 7, 3) := dk_181 0 7 (dk_at dksX18_init_0 14 rfl rfl)
theorem dX18_init_17 : decode cX18_init 17 = .ok (.aload_n 0, 1) := dk_42 (dk_at dksX18_init_0 17 rfl rfl)
theorem dX18_init_18 : decode cX18_init 18 = .ok (.iload 7, 2) := dk_21 7 (dk_at dksX18_init_0 18 rfl rfl)
theorem dX18_init_20 : decode cX18_init 20 = .ok (.putfield 13, 3) := dk_181 0 13 (dk_at dksX18_init_0 20 rfl rfl)
theorem dX18_init_23 : decode cX18_init 23 = .ok (.return_, 1) := dk_177 (dk_at dksX18_init_0 23 rfl rfl)
abbrev cX18_kind : ByteArray := prog_2_method_2_code
def yX18_kind : MethodName := ⟨RX18, "kind", "()C"⟩
theorem dX18_kind_0 : decode cX18_kind 0 = .ok (.bipush 107, 2) := by decide +kernel
theorem dX18_kind_2 : decode cX18_kind 2 = .ok (.ireturn, 1) := by decide +kernel
abbrev cX18_come : ByteArray := prog_2_method_4_code
def yX18_come : MethodName := ⟨RX18, "come", "(LQuorumAlmanac$Node;)V"⟩
def dkwX18_come_1 : List UInt8 := [180, 0, 41, 42, 180, 0, 23, 160, 0, 8, 43, 42, 182, 0, 42, 177]
abbrev dktX18_come_1 : List UInt8 := dkwX18_come_1 ++ []
def dkwX18_come_0 : List UInt8 := [42, 43, 183, 0, 32, 42, 180, 0, 7, 16, 116, 159, 0, 28, 43, 180, 0, 36, 16, 108, 160, 0, 19, 43]
abbrev dktX18_come_0 : List UInt8 := dkwX18_come_0 ++ dktX18_come_1
theorem dksX18_come_0 : cX18_come.data.toList.drop 0 = dktX18_come_0 := by decide +kernel
theorem dksX18_come_1 : cX18_come.data.toList.drop 24 = dktX18_come_1 := dk_seg dksX18_come_0 24 rfl rfl
theorem dX18_come_0 : decode cX18_come 0 = .ok (.aload_n 0, 1) := dk_42 (dk_at dksX18_come_0 0 rfl rfl)
theorem dX18_come_1 : decode cX18_come 1 = .ok (.aload_n 1, 1) := dk_43 (dk_at dksX18_come_0 1 rfl rfl)
theorem dX18_come_2 : decode cX18_come 2 = .ok (.invokespecial 32, 3) := dk_183 0 32 (dk_at dksX18_come_0 2 rfl rfl)
theorem dX18_come_5 : decode cX18_come 5 = .ok (.aload_n 0, 1) := dk_42 (dk_at dksX18_come_0 5 rfl rfl)
theorem dX18_come_6 : decode cX18_come 6 = .ok (.getfield 7, 3) := dk_180 0 7 (dk_at dksX18_come_0 6 rfl rfl)
theorem dX18_come_9 : decode cX18_come 9 = .ok (.bipush 116, 2) := dk_16 116 (dk_at dksX18_come_0 9 rfl rfl)
theorem dX18_come_11 : decode cX18_come 11 = .ok (.if_icmp .eq 28, 3) := dk_159 0 28 (dk_at dksX18_come_0 11 rfl rfl)
theorem dX18_come_14 : decode cX18_come 14 = .ok (.aload_n 1, 1) := dk_43 (dk_at dksX18_come_0 14 rfl rfl)
theorem dX18_come_15 : decode cX18_come 15 = .ok (.getfield 36, 3) := dk_180 0 36 (dk_at dksX18_come_0 15 rfl rfl)
theorem dX18_come_18 : decode cX18_come 18 = .ok (.bipush 108, 2) := dk_16 108 (dk_at dksX18_come_0 18 rfl rfl)
theorem dX18_come_20 : decode cX18_come 20 = .ok (.if_icmp .ne 19, 3) := dk_160 0 19 (dk_at dksX18_come_0 20 rfl rfl)
theorem dX18_come_23 : decode cX18_come 23 = .ok (.aload_n 1, 1) := dk_43 (dk_at dksX18_come_0 23 rfl rfl)
theorem dX18_come_24 : decode cX18_come 24 = .ok (.getfield 41, 3) := dk_180 0 41 (dk_at dksX18_come_1 0 rfl rfl)
theorem dX18_come_27 : decode cX18_come 27 = .ok (.aload_n 0, 1) := dk_42 (dk_at dksX18_come_1 3 rfl rfl)
theorem dX18_come_28 : decode cX18_come 28 = .ok (.getfield 23, 3) := dk_180 0 23 (dk_at dksX18_come_1 4 rfl rfl)
theorem dX18_come_31 : decode cX18_come 31 = .ok (.if_icmp .ne 8, 3) := dk_160 0 8 (dk_at dksX18_come_1 7 rfl rfl)
theorem dX18_come_34 : decode cX18_come 34 = .ok (.aload_n 1, 1) := dk_43 (dk_at dksX18_come_1 10 rfl rfl)
theorem dX18_come_35 : decode cX18_come 35 = .ok (.aload_n 0, 1) := dk_42 (dk_at dksX18_come_1 11 rfl rfl)
theorem dX18_come_36 : decode cX18_come 36 = .ok (.invokevirtual 42, 3) := dk_182 0 42 (dk_at dksX18_come_1 12 rfl rfl)
theorem dX18_come_39 : decode cX18_come 39 = .ok (.return_, 1) := dk_177 (dk_at dksX18_come_1 15 rfl rfl)
abbrev cX18_copy : ByteArray := prog_2_method_3_code
def yX18_copy : MethodName := ⟨RX18, "copy", "(I)LQuorumAlmanac$Message;"⟩
def dkwX18_copy_1 : List UInt8 := [180, 0, 7, 42, 180, 0, 13, 183, 0, 29, 176]
abbrev dktX18_copy_1 : List UInt8 := dkwX18_copy_1 ++ []
def dkwX18_copy_0 : List UInt8 := [187, 0, 8, 89, 27, 42, 180, 0, 17, 42, 180, 0, 20, 42, 180, 0, 23, 42, 180, 0, 26, 42]
abbrev dktX18_copy_0 : List UInt8 := dkwX18_copy_0 ++ dktX18_copy_1
theorem dksX18_copy_0 : cX18_copy.data.toList.drop 0 = dktX18_copy_0 := by decide +kernel
theorem dksX18_copy_1 : cX18_copy.data.toList.drop 22 = dktX18_copy_1 := dk_seg dksX18_copy_0 22 rfl rfl
theorem dX18_copy_0 : decode cX18_copy 0 = .ok (.new 8, 3) := dk_187 0 8 (dk_at dksX18_copy_0 0 rfl rfl)
theorem dX18_copy_3 : decode cX18_copy 3 = .ok (.dup, 1) := dk_89 (dk_at dksX18_copy_0 3 rfl rfl)
theorem dX18_copy_4 : decode cX18_copy 4 = .ok (.iload_n 1, 1) := dk_27 (dk_at dksX18_copy_0 4 rfl rfl)
theorem dX18_copy_5 : decode cX18_copy 5 = .ok (.aload_n 0, 1) := dk_42 (dk_at dksX18_copy_0 5 rfl rfl)
theorem dX18_copy_6 : decode cX18_copy 6 = .ok (.getfield 17, 3) := dk_180 0 17 (dk_at dksX18_copy_0 6 rfl rfl)
theorem dX18_copy_9 : decode cX18_copy 9 = .ok (.aload_n 0, 1) := dk_42 (dk_at dksX18_copy_0 9 rfl rfl)
theorem dX18_copy_10 : decode cX18_copy 10 = .ok (.getfield 20, 3) := dk_180 0 20 (dk_at dksX18_copy_0 10 rfl rfl)
theorem dX18_copy_13 : decode cX18_copy 13 = .ok (.aload_n 0, 1) := dk_42 (dk_at dksX18_copy_0 13 rfl rfl)
theorem dX18_copy_14 : decode cX18_copy 14 = .ok (.getfield 23, 3) := dk_180 0 23 (dk_at dksX18_copy_0 14 rfl rfl)
theorem dX18_copy_17 : decode cX18_copy 17 = .ok (.aload_n 0, 1) := dk_42 (dk_at dksX18_copy_0 17 rfl rfl)
theorem dX18_copy_18 : decode cX18_copy 18 = .ok (.getfield 26, 3) := dk_180 0 26 (dk_at dksX18_copy_0 18 rfl rfl)
theorem dX18_copy_21 : decode cX18_copy 21 = .ok (.aload_n 0, 1) := dk_42 (dk_at dksX18_copy_0 21 rfl rfl)
theorem dX18_copy_22 : decode cX18_copy 22 = .ok (.getfield 7, 3) := dk_180 0 7 (dk_at dksX18_copy_1 0 rfl rfl)
theorem dX18_copy_25 : decode cX18_copy 25 = .ok (.aload_n 0, 1) := dk_42 (dk_at dksX18_copy_1 3 rfl rfl)
theorem dX18_copy_26 : decode cX18_copy 26 = .ok (.getfield 13, 3) := dk_180 0 13 (dk_at dksX18_copy_1 4 rfl rfl)
theorem dX18_copy_29 : decode cX18_copy 29 = .ok (.invokespecial 29, 3) := dk_183 0 29 (dk_at dksX18_copy_1 7 rfl rfl)
theorem dX18_copy_32 : decode cX18_copy 32 = .ok (.areturn, 1) := dk_176 (dk_at dksX18_copy_1 10 rfl rfl)
theorem q83 : (Jvm.Cond.initialized "QuorumAlmanac$Answer") ∈ lw_all := lw_g (lw_at lw_m1 39 rfl) rfl
theorem q226 : (Jvm.Cond.fieldLink "QuorumAlmanac$Answer" (36 : Nat) "QuorumAlmanac$Node" "role" "C") ∈ lw_all := lw_g (lw_at lw_m1 182 rfl) rfl
theorem q233 : (Jvm.Cond.fieldLink "QuorumAlmanac$Answer" (41 : Nat) "QuorumAlmanac$Node" "term" "I") ∈ lw_all := lw_g (lw_at lw_m1 189 rfl) rfl
theorem q454 : (Jvm.Cond.selects "QuorumAlmanac$Answer" ({ cls := "java/lang/Object", name := "hashCode", desc := "()I" } : Jvm.MethodName) ({ cls := "java/lang/Object", name := "hashCode", desc := "()I" } : Jvm.MethodName)) ∈ lw_all := lw_g (lw_at lw_m2 170 rfl) rfl
theorem q559 : (Jvm.Cond.selects "QuorumAlmanac$Answer" ({ cls := "java/lang/Object", name := "getClass", desc := "()Ljava/lang/Class;" } : Jvm.MethodName) ({ cls := "java/lang/Object", name := "getClass", desc := "()Ljava/lang/Class;" } : Jvm.MethodName)) ∈ lw_all := lw_g (lw_at lw_m3 35 rfl) rfl
theorem q638 : (Jvm.Cond.selects "QuorumAlmanac$Answer" ({ cls := "java/lang/Object", name := "equals", desc := "(Ljava/lang/Object;)Z" } : Jvm.MethodName) ({ cls := "java/lang/Object", name := "equals", desc := "(Ljava/lang/Object;)Z" } : Jvm.MethodName)) ∈ lw_all := lw_g (lw_at lw_m3 114 rfl) rfl
theorem q1011 : (Jvm.Cond.fieldLink "QuorumAlmanac$Answer" (26 : Nat) "QuorumAlmanac$Answer" "round" "I") ∈ lw_all := lw_g (lw_at lw_m5 7 rfl) rfl
theorem q1012 : (Jvm.Cond.sameField "QuorumAlmanac$Answer" "QuorumAlmanac$RoundMessage" "round" "I") ∈ lw_all := lw_g (lw_at lw_m5 8 rfl) rfl
theorem q1024 : (Jvm.Cond.fieldLink "QuorumAlmanac$Answer" (17 : Nat) "QuorumAlmanac$Answer" "from" "I") ∈ lw_all := lw_g (lw_at lw_m5 20 rfl) rfl
theorem q1025 : (Jvm.Cond.sameField "QuorumAlmanac$Answer" "QuorumAlmanac$Message" "from" "I") ∈ lw_all := lw_g (lw_at lw_m5 21 rfl) rfl
theorem q1042 : (Jvm.Cond.fieldLink "QuorumAlmanac$Answer" (20 : Nat) "QuorumAlmanac$Answer" "to" "I") ∈ lw_all := lw_g (lw_at lw_m5 38 rfl) rfl
theorem q1043 : (Jvm.Cond.sameField "QuorumAlmanac$Answer" "QuorumAlmanac$Message" "to" "I") ∈ lw_all := lw_g (lw_at lw_m5 39 rfl) rfl
theorem q1056 : (Jvm.Cond.fieldLink "QuorumAlmanac$Answer" (23 : Nat) "QuorumAlmanac$Answer" "term" "I") ∈ lw_all := lw_g (lw_at lw_m5 52 rfl) rfl
theorem q1057 : (Jvm.Cond.sameField "QuorumAlmanac$Answer" "QuorumAlmanac$Message" "term" "I") ∈ lw_all := lw_g (lw_at lw_m5 53 rfl) rfl
theorem q1324 : (Jvm.Cond.instantiable "QuorumAlmanac$Answer" (7 : Nat)) ∈ lw_all := lw_g (lw_at lw_m6 80 rfl) rfl
theorem q1327 : (Jvm.Cond.instanceMethod ({ cls := "QuorumAlmanac$Answer", name := "<init>", desc := "(IIIIICI)V" } : Jvm.MethodName)) ∈ lw_all := lw_g (lw_at lw_m6 83 rfl) rfl
theorem q1328 : (Jvm.Cond.code ({ cls := "QuorumAlmanac$Answer", name := "<init>", desc := "(IIIIICI)V" } : Jvm.MethodName) prog_2_method_1_code (8 : Nat) (Option.none : Option Jvm.ClassFile.FieldType)) ∈ lw_all := lw_g (lw_at lw_m6 84 rfl) rfl
theorem q1329 : (Jvm.Cond.methodLink "QuorumAlmanac$Answer" (1 : Nat) ({ cls := "QuorumAlmanac$RoundMessage", name := "<init>", desc := "(IIIII)V" } : Jvm.MethodName)) ∈ lw_all := lw_g (lw_at lw_m6 85 rfl) rfl
theorem q1330 : (Jvm.Cond.fieldLink "QuorumAlmanac$Answer" (7 : Nat) "QuorumAlmanac$Answer" "how" "C") ∈ lw_all := lw_g (lw_at lw_m6 86 rfl) rfl
theorem q1332 : (Jvm.Cond.fieldLink "QuorumAlmanac$Answer" (13 : Nat) "QuorumAlmanac$Answer" "index" "I") ∈ lw_all := lw_g (lw_at lw_m6 88 rfl) rfl
theorem q1334 : (Jvm.Cond.laysFinal "QuorumAlmanac$Answer" "QuorumAlmanac$Answer" "how" "C") ∈ lw_all := lw_g (lw_at lw_m6 90 rfl) rfl
theorem q1335 : (Jvm.Cond.soleField "QuorumAlmanac$Answer" "how") ∈ lw_all := lw_g (lw_at lw_m6 91 rfl) rfl
theorem q1336 : (Jvm.Cond.laysFinal "QuorumAlmanac$Answer" "QuorumAlmanac$Answer" "index" "I") ∈ lw_all := lw_g (lw_at lw_m6 92 rfl) rfl
theorem q1337 : (Jvm.Cond.soleField "QuorumAlmanac$Answer" "index") ∈ lw_all := lw_g (lw_at lw_m6 93 rfl) rfl
theorem q1338 : (Jvm.Cond.laysFinal "QuorumAlmanac$Answer" "QuorumAlmanac$RoundMessage" "round" "I") ∈ lw_all := lw_g (lw_at lw_m6 94 rfl) rfl
theorem q1339 : (Jvm.Cond.laysFinal "QuorumAlmanac$Answer" "QuorumAlmanac$Message" "number" "I") ∈ lw_all := lw_g (lw_at lw_m6 95 rfl) rfl
theorem q1340 : (Jvm.Cond.laysFinal "QuorumAlmanac$Answer" "QuorumAlmanac$Message" "from" "I") ∈ lw_all := lw_g (lw_at lw_m6 96 rfl) rfl
theorem q1341 : (Jvm.Cond.laysFinal "QuorumAlmanac$Answer" "QuorumAlmanac$Message" "to" "I") ∈ lw_all := lw_g (lw_at lw_m6 97 rfl) rfl
theorem q1342 : (Jvm.Cond.laysFinal "QuorumAlmanac$Answer" "QuorumAlmanac$Message" "term" "I") ∈ lw_all := lw_g (lw_at lw_m6 98 rfl) rfl
theorem q1343 : (Jvm.Cond.superclass "QuorumAlmanac$Answer" "QuorumAlmanac$RoundMessage") ∈ lw_all := lw_g (lw_at lw_m6 99 rfl) rfl
theorem q1514 : (Jvm.Cond.selects "QuorumAlmanac$Answer" ({ cls := "QuorumAlmanac$Message", name := "kind", desc := "()C" } : Jvm.MethodName) ({ cls := "QuorumAlmanac$Answer", name := "kind", desc := "()C" } : Jvm.MethodName)) ∈ lw_all := lw_g (lw_at lw_m7 30 rfl) rfl
theorem q1515 : (Jvm.Cond.instanceMethod ({ cls := "QuorumAlmanac$Answer", name := "kind", desc := "()C" } : Jvm.MethodName)) ∈ lw_all := lw_g (lw_at lw_m7 31 rfl) rfl
theorem q1516 : (Jvm.Cond.code ({ cls := "QuorumAlmanac$Answer", name := "kind", desc := "()C" } : Jvm.MethodName) prog_2_method_2_code (1 : Nat) (Option.some Jvm.ClassFile.FieldType.char)) ∈ lw_all := lw_g (lw_at lw_m7 32 rfl) rfl
theorem q1551 : (Jvm.Cond.selects "QuorumAlmanac$Answer" ({ cls := "QuorumAlmanac$Message", name := "come", desc := "(LQuorumAlmanac$Node;)V" } : Jvm.MethodName) ({ cls := "QuorumAlmanac$Answer", name := "come", desc := "(LQuorumAlmanac$Node;)V" } : Jvm.MethodName)) ∈ lw_all := lw_g (lw_at lw_m7 67 rfl) rfl
theorem q1552 : (Jvm.Cond.instanceMethod ({ cls := "QuorumAlmanac$Answer", name := "come", desc := "(LQuorumAlmanac$Node;)V" } : Jvm.MethodName)) ∈ lw_all := lw_g (lw_at lw_m7 68 rfl) rfl
theorem q1553 : (Jvm.Cond.code ({ cls := "QuorumAlmanac$Answer", name := "come", desc := "(LQuorumAlmanac$Node;)V" } : Jvm.MethodName) prog_2_method_4_code (2 : Nat) (Option.none : Option Jvm.ClassFile.FieldType)) ∈ lw_all := lw_g (lw_at lw_m7 69 rfl) rfl
theorem q1554 : (Jvm.Cond.methodLink "QuorumAlmanac$Answer" (32 : Nat) ({ cls := "QuorumAlmanac$RoundMessage", name := "come", desc := "(LQuorumAlmanac$Node;)V" } : Jvm.MethodName)) ∈ lw_all := lw_g (lw_at lw_m7 70 rfl) rfl
theorem q1560 : (Jvm.Cond.methodLink "QuorumAlmanac$Answer" (42 : Nat) ({ cls := "QuorumAlmanac$Node", name := "take", desc := "(LQuorumAlmanac$Answer;)V" } : Jvm.MethodName)) ∈ lw_all := lw_g (lw_at lw_m7 76 rfl) rfl
theorem q1709 : (Jvm.Cond.selects "QuorumAlmanac$Answer" ({ cls := "QuorumAlmanac$Message", name := "copy", desc := "(I)LQuorumAlmanac$Message;" } : Jvm.MethodName) ({ cls := "QuorumAlmanac$Answer", name := "copy", desc := "(I)LQuorumAlmanac$Message;" } : Jvm.MethodName)) ∈ lw_all := lw_g (lw_at lw_m7 225 rfl) rfl
theorem q1710 : (Jvm.Cond.instanceMethod ({ cls := "QuorumAlmanac$Answer", name := "copy", desc := "(I)LQuorumAlmanac$Message;" } : Jvm.MethodName)) ∈ lw_all := lw_g (lw_at lw_m7 226 rfl) rfl
theorem q1711 : (Jvm.Cond.code ({ cls := "QuorumAlmanac$Answer", name := "copy", desc := "(I)LQuorumAlmanac$Message;" } : Jvm.MethodName) prog_2_method_3_code (2 : Nat) (Option.some (Jvm.ClassFile.FieldType.object "QuorumAlmanac$Message"))) ∈ lw_all := lw_g (lw_at lw_m7 227 rfl) rfl
theorem q1712 : (Jvm.Cond.classLink "QuorumAlmanac$Answer" (8 : Nat) "QuorumAlmanac$Answer") ∈ lw_all := lw_g (lw_at lw_m7 228 rfl) rfl
theorem q1713 : (Jvm.Cond.methodLink "QuorumAlmanac$Answer" (29 : Nat) ({ cls := "QuorumAlmanac$Answer", name := "<init>", desc := "(IIIIICI)V" } : Jvm.MethodName)) ∈ lw_all := lw_g (lw_at lw_m7 229 rfl) rfl
theorem q2631 : (Jvm.Cond.castable "QuorumAlmanac$Answer" "QuorumAlmanac$Message") ∈ lw_tbl := lw_at lw_m11 187 rfl
theorem q2660 : (Jvm.Cond.castable "QuorumAlmanac$Answer" "java/lang/Object") ∈ lw_tbl := lw_at lw_m11 216 rfl
theorem in_X18 : ∀ w ∈ wsX180, w ∈ lw_all := lw_in wsX180 [1339, 1340, 1341, 1342, 1338, 1334, 1336] (by decide +kernel) (by decide +kernel)
/-! QuorumAlmanac$Refused -/
set_option maxRecDepth 100000
def RX19 : String := "QuorumAlmanac$Refused"
def TX19 : u_T := fun k => match k with
  | 0 => ("java/lang/Throwable", "cause", "Ljava/lang/Throwable;", false)
  | 1 => ("java/lang/Throwable", "stackTrace", "[Ljava/lang/StackTraceElement;", false)
  | 2 => ("java/lang/Throwable", "suppressedExceptions", "Ljava/util/List;", false)
  | 3 => ("java/lang/Throwable", "detailMessage", "Ljava/lang/String;", false)
  | 4 => ("java/lang/Throwable", "backtrace", "Ljava/lang/Object;", false)
  | 5 => ("java/lang/Throwable", "depth", "I", false)
  | _ => ("QuorumAlmanac$Refused", "hint", "I", true)
def tyX19 : Nat → FieldType := fun k => match k with
  | 0 => .object "java/lang/Throwable"
  | 1 => .array (.object "java/lang/StackTraceElement")
  | 2 => .object "java/util/List"
  | 3 => .object "java/lang/String"
  | 4 => .object "java/lang/Object"
  | 5 => .int
  | _ => .int
abbrev wsX190 : List Cond := u_ws RX19 TX19 7
theorem nmX19 : ∀ a, a < 7 → ∀ b, b < 7 → a ≠ b → (TX19 a).2.1 ≠ (TX19 b).2.1 := by decide +kernel
theorem tyX19_ok : ∀ k, k < 7 → parseFieldDescriptor (TX19 k).2.2.1 = some (tyX19 k) := by decide +kernel
abbrev cX19_init : ByteArray := prog_12_method_1_code
def yX19_init : MethodName := ⟨RX19, "<init>", "(ILjava/lang/RuntimeException;)V"⟩
def dkwX19_init_0 : List UInt8 := [42, 1, 44, 183, 0, 1, 42, 27, 181, 0, 7, 177]
abbrev dktX19_init_0 : List UInt8 := dkwX19_init_0 ++ []
theorem dksX19_init_0 : cX19_init.data.toList.drop 0 = dktX19_init_0 := by decide +kernel
theorem dX19_init_0 : decode cX19_init 0 = .ok (.aload_n 0, 1) := dk_42 (dk_at dksX19_init_0 0 rfl rfl)
theorem dX19_init_1 : decode cX19_init 1 = .ok (.aconst_null, 1) := dk_1 (dk_at dksX19_init_0 1 rfl rfl)
theorem dX19_init_2 : decode cX19_init 2 = .ok (.aload_n 2, 1) := dk_44 (dk_at dksX19_init_0 2 rfl rfl)
theorem dX19_init_3 : decode cX19_init 3 = .ok (.invokespecial 1, 3) := dk_183 0 1 (dk_at dksX19_init_0 3 rfl rfl)
theorem dX19_init_6 : decode cX19_init 6 = .ok (.aload_n 0, 1) := dk_42 (dk_at dksX19_init_0 6 rfl rfl)
theorem dX19_init_7 : decode cX19_init 7 = .ok (.iload_n 1, 1) := dk_27 (dk_at dksX19_init_0 7 rfl rfl)
theorem dX19_init_8 : decode cX19_init 8 = .ok (.putfield 7, 3) := dk_181 0 7 (dk_at dksX19_init_0 8 rfl rfl)
theorem dX19_init_11 : decode cX19_init 11 = .ok (.return_, 1) := dk_177 (dk_at dksX19_init_0 11 rfl rfl)
theorem q84 : (Jvm.Cond.initialized "QuorumAlmanac$Refused") ∈ lw_all := lw_g (lw_at lw_m1 40 rfl) rfl
theorem q465 : (Jvm.Cond.selects "QuorumAlmanac$Refused" ({ cls := "java/lang/Object", name := "hashCode", desc := "()I" } : Jvm.MethodName) ({ cls := "java/lang/Object", name := "hashCode", desc := "()I" } : Jvm.MethodName)) ∈ lw_all := lw_g (lw_at lw_m2 181 rfl) rfl
theorem q567 : (Jvm.Cond.selects "QuorumAlmanac$Refused" ({ cls := "java/lang/Object", name := "getClass", desc := "()Ljava/lang/Class;" } : Jvm.MethodName) ({ cls := "java/lang/Object", name := "getClass", desc := "()Ljava/lang/Class;" } : Jvm.MethodName)) ∈ lw_all := lw_g (lw_at lw_m3 43 rfl) rfl
theorem q649 : (Jvm.Cond.selects "QuorumAlmanac$Refused" ({ cls := "java/lang/Object", name := "equals", desc := "(Ljava/lang/Object;)Z" } : Jvm.MethodName) ({ cls := "java/lang/Object", name := "equals", desc := "(Ljava/lang/Object;)Z" } : Jvm.MethodName)) ∈ lw_all := lw_g (lw_at lw_m3 125 rfl) rfl
theorem q808 : (Jvm.Cond.selects "QuorumAlmanac$Refused" ({ cls := "java/lang/Throwable", name := "fillInStackTrace", desc := "()Ljava/lang/Throwable;" } : Jvm.MethodName) ({ cls := "java/lang/Throwable", name := "fillInStackTrace", desc := "()Ljava/lang/Throwable;" } : Jvm.MethodName)) ∈ lw_all := lw_g (lw_at lw_m4 44 rfl) rfl
theorem q1593 : (Jvm.Cond.instantiable "QuorumAlmanac$Refused" (7 : Nat)) ∈ lw_all := lw_g (lw_at lw_m7 109 rfl) rfl
theorem q1594 : (Jvm.Cond.castable "QuorumAlmanac$Refused" "QuorumAlmanac$Refused") ∈ lw_tbl := lw_at lw_m7 110 rfl
theorem q1595 : (Jvm.Cond.selects "QuorumAlmanac$Refused" ({ cls := "java/lang/Throwable", name := "fillInStackTrace", desc := "(I)Ljava/lang/Throwable;" } : Jvm.MethodName) ({ cls := "java/lang/Throwable", name := "fillInStackTrace", desc := "(I)Ljava/lang/Throwable;" } : Jvm.MethodName)) ∈ lw_all := lw_g (lw_at lw_m7 111 rfl) rfl
theorem q1596 : (Jvm.Cond.lays "QuorumAlmanac$Refused" "java/lang/Throwable" "cause" "Ljava/lang/Throwable;") ∈ lw_all := lw_g (lw_at lw_m7 112 rfl) rfl
theorem q1597 : (Jvm.Cond.lays "QuorumAlmanac$Refused" "java/lang/Throwable" "stackTrace" "[Ljava/lang/StackTraceElement;") ∈ lw_all := lw_g (lw_at lw_m7 113 rfl) rfl
theorem q1598 : (Jvm.Cond.lays "QuorumAlmanac$Refused" "java/lang/Throwable" "suppressedExceptions" "Ljava/util/List;") ∈ lw_all := lw_g (lw_at lw_m7 114 rfl) rfl
theorem q1599 : (Jvm.Cond.lays "QuorumAlmanac$Refused" "java/lang/Throwable" "detailMessage" "Ljava/lang/String;") ∈ lw_all := lw_g (lw_at lw_m7 115 rfl) rfl
theorem q1600 : (Jvm.Cond.lays "QuorumAlmanac$Refused" "java/lang/Throwable" "backtrace" "Ljava/lang/Object;") ∈ lw_all := lw_g (lw_at lw_m7 116 rfl) rfl
theorem q1604 : (Jvm.Cond.instanceMethod ({ cls := "QuorumAlmanac$Refused", name := "<init>", desc := "(ILjava/lang/RuntimeException;)V" } : Jvm.MethodName)) ∈ lw_all := lw_g (lw_at lw_m7 120 rfl) rfl
theorem q1605 : (Jvm.Cond.code ({ cls := "QuorumAlmanac$Refused", name := "<init>", desc := "(ILjava/lang/RuntimeException;)V" } : Jvm.MethodName) prog_12_method_1_code (3 : Nat) (Option.none : Option Jvm.ClassFile.FieldType)) ∈ lw_all := lw_g (lw_at lw_m7 121 rfl) rfl
theorem q1606 : (Jvm.Cond.methodLink "QuorumAlmanac$Refused" (1 : Nat) ({ cls := "java/lang/Exception", name := "<init>", desc := "(Ljava/lang/String;Ljava/lang/Throwable;)V" } : Jvm.MethodName)) ∈ lw_all := lw_g (lw_at lw_m7 122 rfl) rfl
theorem q1612 : (Jvm.Cond.fieldLink "QuorumAlmanac$Refused" (7 : Nat) "QuorumAlmanac$Refused" "hint" "I") ∈ lw_all := lw_g (lw_at lw_m7 128 rfl) rfl
theorem q1614 : (Jvm.Cond.laysFinal "QuorumAlmanac$Refused" "QuorumAlmanac$Refused" "hint" "I") ∈ lw_all := lw_g (lw_at lw_m7 130 rfl) rfl
theorem q1615 : (Jvm.Cond.soleField "QuorumAlmanac$Refused" "hint") ∈ lw_all := lw_g (lw_at lw_m7 131 rfl) rfl
theorem q1616 : (Jvm.Cond.lays "QuorumAlmanac$Refused" "java/lang/Throwable" "depth" "I") ∈ lw_all := lw_g (lw_at lw_m7 132 rfl) rfl
theorem q1617 : (Jvm.Cond.superclass "QuorumAlmanac$Refused" "java/lang/Exception") ∈ lw_all := lw_g (lw_at lw_m7 133 rfl) rfl
theorem q1637 : (Jvm.Cond.sameMethod "QuorumAlmanac$Refused" "java/lang/Throwable" "getCause" "()Ljava/lang/Throwable;") ∈ lw_all := lw_g (lw_at lw_m7 153 rfl) rfl
theorem q1639 : (Jvm.Cond.selects "QuorumAlmanac$Refused" ({ cls := "QuorumAlmanac$Refused", name := "getCause", desc := "()Ljava/lang/Throwable;" } : Jvm.MethodName) ({ cls := "java/lang/Throwable", name := "getCause", desc := "()Ljava/lang/Throwable;" } : Jvm.MethodName)) ∈ lw_all := lw_g (lw_at lw_m7 155 rfl) rfl
theorem q2661 : (Jvm.Cond.castable "QuorumAlmanac$Refused" "java/lang/Object") ∈ lw_tbl := lw_at lw_m11 217 rfl
theorem in_X19 : ∀ w ∈ wsX190, w ∈ lw_all := lw_in wsX190 [1596, 1597, 1598, 1599, 1600, 1616, 1614] (by decide +kernel) (by decide +kernel)
/-! QuorumAlmanac$Voice -/
set_option maxRecDepth 100000
def RX20 : String := "QuorumAlmanac$Voice"
def TX20 : u_T := fun k => match k with
  | 0 => ("QuorumAlmanac$Message", "number", "I", true)
  | 1 => ("QuorumAlmanac$Message", "from", "I", true)
  | 2 => ("QuorumAlmanac$Message", "to", "I", true)
  | 3 => ("QuorumAlmanac$Message", "term", "I", true)
  | _ => ("QuorumAlmanac$Voice", "isYes", "Z", true)
def tyX20 : Nat → FieldType := fun k => match k with
  | 0 => .int
  | 1 => .int
  | 2 => .int
  | 3 => .int
  | _ => .boolean
abbrev wsX200 : List Cond := u_ws RX20 TX20 5
theorem nmX20 : ∀ a, a < 5 → ∀ b, b < 5 → a ≠ b → (TX20 a).2.1 ≠ (TX20 b).2.1 := by decide +kernel
theorem tyX20_ok : ∀ k, k < 5 → parseFieldDescriptor (TX20 k).2.2.1 = some (tyX20 k) := by decide +kernel
abbrev cX20_kind : ByteArray := prog_16_method_2_code
def yX20_kind : MethodName := ⟨RX20, "kind", "()C"⟩
theorem dX20_kind_0 : decode cX20_kind 0 = .ok (.bipush 121, 2) := by decide +kernel
theorem dX20_kind_2 : decode cX20_kind 2 = .ok (.ireturn, 1) := by decide +kernel
abbrev cX20_come : ByteArray := prog_16_method_4_code
def yX20_come : MethodName := ⟨RX20, "come", "(LQuorumAlmanac$Node;)V"⟩
def dkwX20_come_2 : List UInt8 := [181, 0, 37, 43, 182, 0, 40, 177]
abbrev dktX20_come_2 : List UInt8 := dkwX20_come_2 ++ []
def dkwX20_come_1 : List UInt8 := [160, 0, 29, 42, 180, 0, 7, 153, 0, 22, 43, 89, 180, 0, 37, 4, 42, 180, 0, 13, 120, 128]
abbrev dktX20_come_1 : List UInt8 := dkwX20_come_1 ++ dktX20_come_2
def dkwX20_come_0 : List UInt8 := [42, 43, 183, 0, 26, 43, 180, 0, 30, 16, 99, 160, 0, 40, 43, 180, 0, 36, 42, 180, 0, 20]
abbrev dktX20_come_0 : List UInt8 := dkwX20_come_0 ++ dktX20_come_1
theorem dksX20_come_0 : cX20_come.data.toList.drop 0 = dktX20_come_0 := by decide +kernel
theorem dksX20_come_1 : cX20_come.data.toList.drop 22 = dktX20_come_1 := dk_seg dksX20_come_0 22 rfl rfl
theorem dksX20_come_2 : cX20_come.data.toList.drop 44 = dktX20_come_2 := dk_seg dksX20_come_1 22 rfl rfl
theorem dX20_come_0 : decode cX20_come 0 = .ok (.aload_n 0, 1) := dk_42 (dk_at dksX20_come_0 0 rfl rfl)
theorem dX20_come_1 : decode cX20_come 1 = .ok (.aload_n 1, 1) := dk_43 (dk_at dksX20_come_0 1 rfl rfl)
theorem dX20_come_2 : decode cX20_come 2 = .ok (.invokespecial 26, 3) := dk_183 0 26 (dk_at dksX20_come_0 2 rfl rfl)
theorem dX20_come_5 : decode cX20_come 5 = .ok (.aload_n 1, 1) := dk_43 (dk_at dksX20_come_0 5 rfl rfl)
theorem dX20_come_6 : decode cX20_come 6 = .ok (.getfield 30, 3) := dk_180 0 30 (dk_at dksX20_come_0 6 rfl rfl)
theorem dX20_come_9 : decode cX20_come 9 = .ok (.bipush 99, 2) := dk_16 99 (dk_at dksX20_come_0 9 rfl rfl)
theorem dX20_come_11 : decode cX20_come 11 = .ok (.if_icmp .ne 40, 3) := dk_160 0 40 (dk_at dksX20_come_0 11 rfl rfl)
theorem dX20_come_14 : decode cX20_come 14 = .ok (.aload_n 1, 1) := dk_43 (dk_at dksX20_come_0 14 rfl rfl)
theorem dX20_come_15 : decode cX20_come 15 = .ok (.getfield 36, 3) := dk_180 0 36 (dk_at dksX20_come_0 15 rfl rfl)
theorem dX20_come_18 : decode cX20_come 18 = .ok (.aload_n 0, 1) := dk_42 (dk_at dksX20_come_0 18 rfl rfl)
theorem dX20_come_19 : decode cX20_come 19 = .ok (.getfield 20, 3) := dk_180 0 20 (dk_at dksX20_come_0 19 rfl rfl)
theorem dX20_come_22 : decode cX20_come 22 = .ok (.if_icmp .ne 29, 3) := dk_160 0 29 (dk_at dksX20_come_1 0 rfl rfl)
theorem dX20_come_25 : decode cX20_come 25 = .ok (.aload_n 0, 1) := dk_42 (dk_at dksX20_come_1 3 rfl rfl)
theorem dX20_come_26 : decode cX20_come 26 = .ok (.getfield 7, 3) := dk_180 0 7 (dk_at dksX20_come_1 4 rfl rfl)
theorem dX20_come_29 : decode cX20_come 29 = .ok (.ifCond .eq 22, 3) := dk_153 0 22 (dk_at dksX20_come_1 7 rfl rfl)
theorem dX20_come_32 : decode cX20_come 32 = .ok (.aload_n 1, 1) := dk_43 (dk_at dksX20_come_1 10 rfl rfl)
theorem dX20_come_33 : decode cX20_come 33 = .ok (.dup, 1) := dk_89 (dk_at dksX20_come_1 11 rfl rfl)
theorem dX20_come_34 : decode cX20_come 34 = .ok (.getfield 37, 3) := dk_180 0 37 (dk_at dksX20_come_1 12 rfl rfl)
theorem dX20_come_37 : decode cX20_come 37 = .ok (.iconst 1, 1) := dk_4 (dk_at dksX20_come_1 15 rfl rfl)
theorem dX20_come_38 : decode cX20_come 38 = .ok (.aload_n 0, 1) := dk_42 (dk_at dksX20_come_1 16 rfl rfl)
theorem dX20_come_39 : decode cX20_come 39 = .ok (.getfield 13, 3) := dk_180 0 13 (dk_at dksX20_come_1 17 rfl rfl)
theorem dX20_come_42 : decode cX20_come 42 = .ok (.ishl, 1) := dk_120 (dk_at dksX20_come_1 20 rfl rfl)
theorem dX20_come_43 : decode cX20_come 43 = .ok (.ior, 1) := dk_128 (dk_at dksX20_come_1 21 rfl rfl)
theorem dX20_come_44 : decode cX20_come 44 = .ok (.putfield 37, 3) := dk_181 0 37 (dk_at dksX20_come_2 0 rfl rfl)
theorem dX20_come_47 : decode cX20_come 47 = .ok (.aload_n 1, 1) := dk_43 (dk_at dksX20_come_2 3 rfl rfl)
theorem dX20_come_48 : decode cX20_come 48 = .ok (.invokevirtual 40, 3) := dk_182 0 40 (dk_at dksX20_come_2 4 rfl rfl)
theorem dX20_come_51 : decode cX20_come 51 = .ok (.return_, 1) := dk_177 (dk_at dksX20_come_2 7 rfl rfl)
abbrev cX20_init : ByteArray := prog_16_method_1_code
def yX20_init : MethodName := ⟨RX20, "<init>", "(IIIIZ)V"⟩
def dkwX20_init_0 : List UInt8 := [42, 27, 28, 29, 21, 4, 183, 0, 1, 42, 21, 5, 181, 0, 7, 177]
abbrev dktX20_init_0 : List UInt8 := dkwX20_init_0 ++ []
theorem dksX20_init_0 : cX20_init.data.toList.drop 0 = dktX20_init_0 := by decide +kernel
theorem dX20_init_0 : decode cX20_init 0 = .ok (.aload_n 0, 1) := dk_42 (dk_at dksX20_init_0 0 rfl rfl)
theorem dX20_init_1 : decode cX20_init 1 = .ok (.iload_n 1, 1) := dk_27 (dk_at dksX20_init_0 1 rfl rfl)
theorem dX20_init_2 : decode cX20_init 2 = .ok (.iload_n 2, 1) := dk_28 (dk_at dksX20_init_0 2 rfl rfl)
theorem dX20_init_3 : decode cX20_init 3 = .ok (.iload_n 3, 1) := dk_29 (dk_at dksX20_init_0 3 rfl rfl)
theorem dX20_init_4 : decode cX20_init 4 = .ok (.iload 4, 2) := dk_21 4 (dk_at dksX20_init_0 4 rfl rfl)
theorem dX20_init_6 : decode cX20_init 6 = .ok (.invokespecial 1, 3) := dk_183 0 1 (dk_at dksX20_init_0 6 rfl rfl)
theorem dX20_init_9 : decode cX20_init 9 = .ok (.aload_n 0, 1) := dk_42 (dk_at dksX20_init_0 9 rfl rfl)
theorem dX20_init_10 : decode cX20_init 10 = .ok (.iload 5, 2) := dk_21 5 (dk_at dksX20_init_0 10 rfl rfl)
theorem dX20_init_12 : decode cX20_init 12 = .ok (.putfield 7, 3) := dk_181 0 7 (dk_at dksX20_init_0 12 rfl rfl)
theorem dX20_init_15 : decode cX20_init 15 = .ok (.return_, 1) := dk_177 (dk_at dksX20_init_0 15 rfl rfl)
abbrev cX20_copy : ByteArray := prog_16_method_3_code
def yX20_copy : MethodName := ⟨RX20, "copy", "(I)LQuorumAlmanac$Message;"⟩
def dkwX20_copy_1 : List UInt8 := [176]
abbrev dktX20_copy_1 : List UInt8 := dkwX20_copy_1 ++ []
def dkwX20_copy_0 : List UInt8 := [187, 0, 8, 89, 27, 42, 180, 0, 13, 42, 180, 0, 17, 42, 180, 0, 20, 42, 180, 0, 7, 183, 0, 23]
abbrev dktX20_copy_0 : List UInt8 := dkwX20_copy_0 ++ dktX20_copy_1
theorem dksX20_copy_0 : cX20_copy.data.toList.drop 0 = dktX20_copy_0 := by decide +kernel
theorem dksX20_copy_1 : cX20_copy.data.toList.drop 24 = dktX20_copy_1 := dk_seg dksX20_copy_0 24 rfl rfl
theorem dX20_copy_0 : decode cX20_copy 0 = .ok (.new 8, 3) := dk_187 0 8 (dk_at dksX20_copy_0 0 rfl rfl)
theorem dX20_copy_3 : decode cX20_copy 3 = .ok (.dup, 1) := dk_89 (dk_at dksX20_copy_0 3 rfl rfl)
theorem dX20_copy_4 : decode cX20_copy 4 = .ok (.iload_n 1, 1) := dk_27 (dk_at dksX20_copy_0 4 rfl rfl)
theorem dX20_copy_5 : decode cX20_copy 5 = .ok (.aload_n 0, 1) := dk_42 (dk_at dksX20_copy_0 5 rfl rfl)
theorem dX20_copy_6 : decode cX20_copy 6 = .ok (.getfield 13, 3) := dk_180 0 13 (dk_at dksX20_copy_0 6 rfl rfl)
theorem dX20_copy_9 : decode cX20_copy 9 = .ok (.aload_n 0, 1) := dk_42 (dk_at dksX20_copy_0 9 rfl rfl)
theorem dX20_copy_10 : decode cX20_copy 10 = .ok (.getfield 17, 3) := dk_180 0 17 (dk_at dksX20_copy_0 10 rfl rfl)
theorem dX20_copy_13 : decode cX20_copy 13 = .ok (.aload_n 0, 1) := dk_42 (dk_at dksX20_copy_0 13 rfl rfl)
theorem dX20_copy_14 : decode cX20_copy 14 = .ok (.getfield 20, 3) := dk_180 0 20 (dk_at dksX20_copy_0 14 rfl rfl)
theorem dX20_copy_17 : decode cX20_copy 17 = .ok (.aload_n 0, 1) := dk_42 (dk_at dksX20_copy_0 17 rfl rfl)
theorem dX20_copy_18 : decode cX20_copy 18 = .ok (.getfield 7, 3) := dk_180 0 7 (dk_at dksX20_copy_0 18 rfl rfl)
theorem dX20_copy_21 : decode cX20_copy 21 = .ok (.invokespecial 23, 3) := dk_183 0 23 (dk_at dksX20_copy_0 21 rfl rfl)
theorem dX20_copy_24 : decode cX20_copy 24 = .ok (.areturn, 1) := dk_176 (dk_at dksX20_copy_1 0 rfl rfl)
theorem q86 : (Jvm.Cond.initialized "QuorumAlmanac$Voice") ∈ lw_all := lw_g (lw_at lw_m1 42 rfl) rfl
theorem q225 : (Jvm.Cond.fieldLink "QuorumAlmanac$Voice" (30 : Nat) "QuorumAlmanac$Node" "role" "C") ∈ lw_all := lw_g (lw_at lw_m1 181 rfl) rfl
theorem q232 : (Jvm.Cond.fieldLink "QuorumAlmanac$Voice" (36 : Nat) "QuorumAlmanac$Node" "term" "I") ∈ lw_all := lw_g (lw_at lw_m1 188 rfl) rfl
theorem q253 : (Jvm.Cond.fieldLink "QuorumAlmanac$Voice" (37 : Nat) "QuorumAlmanac$Node" "voices" "I") ∈ lw_all := lw_g (lw_at lw_m1 209 rfl) rfl
theorem q468 : (Jvm.Cond.selects "QuorumAlmanac$Voice" ({ cls := "java/lang/Object", name := "hashCode", desc := "()I" } : Jvm.MethodName) ({ cls := "java/lang/Object", name := "hashCode", desc := "()I" } : Jvm.MethodName)) ∈ lw_all := lw_g (lw_at lw_m2 184 rfl) rfl
theorem q570 : (Jvm.Cond.selects "QuorumAlmanac$Voice" ({ cls := "java/lang/Object", name := "getClass", desc := "()Ljava/lang/Class;" } : Jvm.MethodName) ({ cls := "java/lang/Object", name := "getClass", desc := "()Ljava/lang/Class;" } : Jvm.MethodName)) ∈ lw_all := lw_g (lw_at lw_m3 46 rfl) rfl
theorem q652 : (Jvm.Cond.selects "QuorumAlmanac$Voice" ({ cls := "java/lang/Object", name := "equals", desc := "(Ljava/lang/Object;)Z" } : Jvm.MethodName) ({ cls := "java/lang/Object", name := "equals", desc := "(Ljava/lang/Object;)Z" } : Jvm.MethodName)) ∈ lw_all := lw_g (lw_at lw_m3 128 rfl) rfl
theorem q1030 : (Jvm.Cond.fieldLink "QuorumAlmanac$Voice" (13 : Nat) "QuorumAlmanac$Voice" "from" "I") ∈ lw_all := lw_g (lw_at lw_m5 26 rfl) rfl
theorem q1031 : (Jvm.Cond.sameField "QuorumAlmanac$Voice" "QuorumAlmanac$Message" "from" "I") ∈ lw_all := lw_g (lw_at lw_m5 27 rfl) rfl
theorem q1048 : (Jvm.Cond.fieldLink "QuorumAlmanac$Voice" (17 : Nat) "QuorumAlmanac$Voice" "to" "I") ∈ lw_all := lw_g (lw_at lw_m5 44 rfl) rfl
theorem q1049 : (Jvm.Cond.sameField "QuorumAlmanac$Voice" "QuorumAlmanac$Message" "to" "I") ∈ lw_all := lw_g (lw_at lw_m5 45 rfl) rfl
theorem q1062 : (Jvm.Cond.fieldLink "QuorumAlmanac$Voice" (20 : Nat) "QuorumAlmanac$Voice" "term" "I") ∈ lw_all := lw_g (lw_at lw_m5 58 rfl) rfl
theorem q1063 : (Jvm.Cond.sameField "QuorumAlmanac$Voice" "QuorumAlmanac$Message" "term" "I") ∈ lw_all := lw_g (lw_at lw_m5 59 rfl) rfl
theorem q1523 : (Jvm.Cond.selects "QuorumAlmanac$Voice" ({ cls := "QuorumAlmanac$Message", name := "kind", desc := "()C" } : Jvm.MethodName) ({ cls := "QuorumAlmanac$Voice", name := "kind", desc := "()C" } : Jvm.MethodName)) ∈ lw_all := lw_g (lw_at lw_m7 39 rfl) rfl
theorem q1524 : (Jvm.Cond.instanceMethod ({ cls := "QuorumAlmanac$Voice", name := "kind", desc := "()C" } : Jvm.MethodName)) ∈ lw_all := lw_g (lw_at lw_m7 40 rfl) rfl
theorem q1525 : (Jvm.Cond.code ({ cls := "QuorumAlmanac$Voice", name := "kind", desc := "()C" } : Jvm.MethodName) prog_16_method_2_code (1 : Nat) (Option.some Jvm.ClassFile.FieldType.char)) ∈ lw_all := lw_g (lw_at lw_m7 41 rfl) rfl
theorem q1652 : (Jvm.Cond.selects "QuorumAlmanac$Voice" ({ cls := "QuorumAlmanac$Message", name := "come", desc := "(LQuorumAlmanac$Node;)V" } : Jvm.MethodName) ({ cls := "QuorumAlmanac$Voice", name := "come", desc := "(LQuorumAlmanac$Node;)V" } : Jvm.MethodName)) ∈ lw_all := lw_g (lw_at lw_m7 168 rfl) rfl
theorem q1653 : (Jvm.Cond.instanceMethod ({ cls := "QuorumAlmanac$Voice", name := "come", desc := "(LQuorumAlmanac$Node;)V" } : Jvm.MethodName)) ∈ lw_all := lw_g (lw_at lw_m7 169 rfl) rfl
theorem q1654 : (Jvm.Cond.code ({ cls := "QuorumAlmanac$Voice", name := "come", desc := "(LQuorumAlmanac$Node;)V" } : Jvm.MethodName) prog_16_method_4_code (2 : Nat) (Option.none : Option Jvm.ClassFile.FieldType)) ∈ lw_all := lw_g (lw_at lw_m7 170 rfl) rfl
theorem q1655 : (Jvm.Cond.methodLink "QuorumAlmanac$Voice" (26 : Nat) ({ cls := "QuorumAlmanac$Message", name := "come", desc := "(LQuorumAlmanac$Node;)V" } : Jvm.MethodName)) ∈ lw_all := lw_g (lw_at lw_m7 171 rfl) rfl
theorem q1656 : (Jvm.Cond.superclass "QuorumAlmanac$Voice" "QuorumAlmanac$Message") ∈ lw_all := lw_g (lw_at lw_m7 172 rfl) rfl
theorem q1657 : (Jvm.Cond.methodLink "QuorumAlmanac$Voice" (40 : Nat) ({ cls := "QuorumAlmanac$Node", name := "winIfElected", desc := "()V" } : Jvm.MethodName)) ∈ lw_all := lw_g (lw_at lw_m7 173 rfl) rfl
theorem q1679 : (Jvm.Cond.instantiable "QuorumAlmanac$Voice" (5 : Nat)) ∈ lw_all := lw_g (lw_at lw_m7 195 rfl) rfl
theorem q1681 : (Jvm.Cond.instanceMethod ({ cls := "QuorumAlmanac$Voice", name := "<init>", desc := "(IIIIZ)V" } : Jvm.MethodName)) ∈ lw_all := lw_g (lw_at lw_m7 197 rfl) rfl
theorem q1682 : (Jvm.Cond.code ({ cls := "QuorumAlmanac$Voice", name := "<init>", desc := "(IIIIZ)V" } : Jvm.MethodName) prog_16_method_1_code (6 : Nat) (Option.none : Option Jvm.ClassFile.FieldType)) ∈ lw_all := lw_g (lw_at lw_m7 198 rfl) rfl
theorem q1683 : (Jvm.Cond.methodLink "QuorumAlmanac$Voice" (1 : Nat) ({ cls := "QuorumAlmanac$Message", name := "<init>", desc := "(IIII)V" } : Jvm.MethodName)) ∈ lw_all := lw_g (lw_at lw_m7 199 rfl) rfl
theorem q1684 : (Jvm.Cond.fieldLink "QuorumAlmanac$Voice" (7 : Nat) "QuorumAlmanac$Voice" "isYes" "Z") ∈ lw_all := lw_g (lw_at lw_m7 200 rfl) rfl
theorem q1685 : (Jvm.Cond.laysFinal "QuorumAlmanac$Voice" "QuorumAlmanac$Voice" "isYes" "Z") ∈ lw_all := lw_g (lw_at lw_m7 201 rfl) rfl
theorem q1686 : (Jvm.Cond.soleField "QuorumAlmanac$Voice" "isYes") ∈ lw_all := lw_g (lw_at lw_m7 202 rfl) rfl
theorem q1687 : (Jvm.Cond.laysFinal "QuorumAlmanac$Voice" "QuorumAlmanac$Message" "number" "I") ∈ lw_all := lw_g (lw_at lw_m7 203 rfl) rfl
theorem q1688 : (Jvm.Cond.laysFinal "QuorumAlmanac$Voice" "QuorumAlmanac$Message" "from" "I") ∈ lw_all := lw_g (lw_at lw_m7 204 rfl) rfl
theorem q1689 : (Jvm.Cond.laysFinal "QuorumAlmanac$Voice" "QuorumAlmanac$Message" "to" "I") ∈ lw_all := lw_g (lw_at lw_m7 205 rfl) rfl
theorem q1690 : (Jvm.Cond.laysFinal "QuorumAlmanac$Voice" "QuorumAlmanac$Message" "term" "I") ∈ lw_all := lw_g (lw_at lw_m7 206 rfl) rfl
theorem q1724 : (Jvm.Cond.selects "QuorumAlmanac$Voice" ({ cls := "QuorumAlmanac$Message", name := "copy", desc := "(I)LQuorumAlmanac$Message;" } : Jvm.MethodName) ({ cls := "QuorumAlmanac$Voice", name := "copy", desc := "(I)LQuorumAlmanac$Message;" } : Jvm.MethodName)) ∈ lw_all := lw_g (lw_at lw_m8 0 rfl) rfl
theorem q1725 : (Jvm.Cond.instanceMethod ({ cls := "QuorumAlmanac$Voice", name := "copy", desc := "(I)LQuorumAlmanac$Message;" } : Jvm.MethodName)) ∈ lw_all := lw_g (lw_at lw_m8 1 rfl) rfl
theorem q1726 : (Jvm.Cond.code ({ cls := "QuorumAlmanac$Voice", name := "copy", desc := "(I)LQuorumAlmanac$Message;" } : Jvm.MethodName) prog_16_method_3_code (2 : Nat) (Option.some (Jvm.ClassFile.FieldType.object "QuorumAlmanac$Message"))) ∈ lw_all := lw_g (lw_at lw_m8 2 rfl) rfl
theorem q1727 : (Jvm.Cond.classLink "QuorumAlmanac$Voice" (8 : Nat) "QuorumAlmanac$Voice") ∈ lw_all := lw_g (lw_at lw_m8 3 rfl) rfl
theorem q1728 : (Jvm.Cond.methodLink "QuorumAlmanac$Voice" (23 : Nat) ({ cls := "QuorumAlmanac$Voice", name := "<init>", desc := "(IIIIZ)V" } : Jvm.MethodName)) ∈ lw_all := lw_g (lw_at lw_m8 4 rfl) rfl
theorem q2634 : (Jvm.Cond.castable "QuorumAlmanac$Voice" "QuorumAlmanac$Message") ∈ lw_tbl := lw_at lw_m11 190 rfl
theorem q2663 : (Jvm.Cond.castable "QuorumAlmanac$Voice" "java/lang/Object") ∈ lw_tbl := lw_at lw_m11 219 rfl
theorem in_X20 : ∀ w ∈ wsX200, w ∈ lw_all := lw_in wsX200 [1687, 1688, 1689, 1690, 1685] (by decide +kernel) (by decide +kernel)
/-! QuorumAlmanac$Read -/
set_option maxRecDepth 100000
def RX21 : String := "QuorumAlmanac$Read"
def TX21 : u_T := fun k => match k with
  | 0 => ("QuorumAlmanac$Read", "node", "I", true)
  | 1 => ("QuorumAlmanac$Read", "term", "I", true)
  | 2 => ("QuorumAlmanac$Read", "round", "I", true)
  | 3 => ("QuorumAlmanac$Read", "key", "I", true)
  | 4 => ("QuorumAlmanac$Read", "historyThen", "I", true)
  | 5 => ("QuorumAlmanac$Read", "state", "C", false)
  | _ => ("QuorumAlmanac$Read", "value", "I", false)
def tyX21 : Nat → FieldType := fun k => match k with
  | 0 => .int
  | 1 => .int
  | 2 => .int
  | 3 => .int
  | 4 => .int
  | 5 => .char
  | _ => .int
abbrev wsX210 : List Cond := u_ws RX21 TX21 7
theorem nmX21 : ∀ a, a < 7 → ∀ b, b < 7 → a ≠ b → (TX21 a).2.1 ≠ (TX21 b).2.1 := by decide +kernel
theorem tyX21_ok : ∀ k, k < 7 → parseFieldDescriptor (TX21 k).2.2.1 = some (tyX21 k) := by decide +kernel
abbrev cX21_init : ByteArray := prog_11_method_1_code
def yX21_init : MethodName := ⟨RX21, "<init>", "(IIIII)V"⟩
def dkwX21_init_1 : List UInt8 := [181, 0, 20, 42, 21, 4, 181, 0, 23, 42, 21, 5, 181, 0, 26, 177]
abbrev dktX21_init_1 : List UInt8 := dkwX21_init_1 ++ []
def dkwX21_init_0 : List UInt8 := [42, 183, 0, 1, 42, 16, 119, 181, 0, 7, 42, 27, 181, 0, 13, 42, 28, 181, 0, 17, 42, 29]
abbrev dktX21_init_0 : List UInt8 := dkwX21_init_0 ++ dktX21_init_1
theorem dksX21_init_0 : cX21_init.data.toList.drop 0 = dktX21_init_0 := by decide +kernel
theorem dksX21_init_1 : cX21_init.data.toList.drop 22 = dktX21_init_1 := dk_seg dksX21_init_0 22 rfl rfl
theorem dX21_init_0 : decode cX21_init 0 = .ok (.aload_n 0, 1) := dk_42 (dk_at dksX21_init_0 0 rfl rfl)
theorem dX21_init_1 : decode cX21_init 1 = .ok (.invokespecial 1, 3) := dk_183 0 1 (dk_at dksX21_init_0 1 rfl rfl)
theorem dX21_init_4 : decode cX21_init 4 = .ok (.aload_n 0, 1) := dk_42 (dk_at dksX21_init_0 4 rfl rfl)
theorem dX21_init_5 : decode cX21_init 5 = .ok (.bipush 119, 2) := dk_16 119 (dk_at dksX21_init_0 5 rfl rfl)
theorem dX21_init_7 : decode cX21_init 7 = .ok (.putfield 7, 3) := dk_181 0 7 (dk_at dksX21_init_0 7 rfl rfl)
theorem dX21_init_10 : decode cX21_init 10 = .ok (.aload_n 0, 1) := dk_42 (dk_at dksX21_init_0 10 rfl rfl)
theorem dX21_init_11 : decode cX21_init 11 = .ok (.iload_n 1, 1) := dk_27 (dk_at dksX21_init_0 11 rfl rfl)
theorem dX21_init_12 : decode cX21_init 12 = .ok (.putfield 13, 3) := dk_181 0 13 (dk_at dksX21_init_0 12 rfl rfl)
theorem dX21_init_15 : decode cX21_init 15 = .ok (.aload_n 0, 1) := dk_42 (dk_at dksX21_init_0 15 rfl rfl)
theorem dX21_init_16 : decode cX21_init 16 = .ok (.iload_n 2, 1) := dk_28 (dk_at dksX21_init_0 16 rfl rfl)
theorem dX21_init_17 : decode cX21_init 17 = .ok (.putfield 17, 3) := dk_181 0 17 (dk_at dksX21_init_0 17 rfl rfl)
theorem dX21_init_20 : decode cX21_init 20 = .ok (.aload_n 0, 1) := dk_42 (dk_at dksX21_init_0 20 rfl rfl)
theorem dX21_init_21 : decode cX21_init 21 = .ok (.iload_n 3, 1) := dk_29 (dk_at dksX21_init_0 21 rfl rfl)
theorem dX21_init_22 : decode cX21_init 22 = .ok (.putfield 20, 3) := dk_181 0 20 (dk_at dksX21_init_1 0 rfl rfl)
theorem dX21_init_25 : decode cX21_init 25 = .ok (.aload_n 0, 1) := dk_42 (dk_at dksX21_init_1 3 rfl rfl)
theorem dX21_init_26 : decode cX21_init 26 = .ok (.iload 4, 2) := dk_21 4 (dk_at dksX21_init_1 4 rfl rfl)
theorem dX21_init_28 : decode cX21_init 28 = .ok (.putfield 23, 3) := dk_181 0 23 (dk_at dksX21_init_1 6 rfl rfl)
theorem dX21_init_31 : decode cX21_init 31 = .ok (.aload_n 0, 1) := dk_42 (dk_at dksX21_init_1 9 rfl rfl)
theorem dX21_init_32 : decode cX21_init 32 = .ok (.iload 5, 2) := dk_21 5 (dk_at dksX21_init_1 10 rfl rfl)
theorem dX21_init_34 : decode cX21_init 34 = .ok (.putfield 26, 3) := dk_181 0 26 (dk_at dksX21_init_1 12 rfl rfl)
theorem dX21_init_37 : decode cX21_init 37 = .ok (.return_, 1) := dk_177 (dk_at dksX21_init_1 15 rfl rfl)
theorem q88 : (Jvm.Cond.initialized "QuorumAlmanac$Read") ∈ lw_all := lw_g (lw_at lw_m1 44 rfl) rfl
theorem q464 : (Jvm.Cond.selects "QuorumAlmanac$Read" ({ cls := "java/lang/Object", name := "hashCode", desc := "()I" } : Jvm.MethodName) ({ cls := "java/lang/Object", name := "hashCode", desc := "()I" } : Jvm.MethodName)) ∈ lw_all := lw_g (lw_at lw_m2 180 rfl) rfl
theorem q566 : (Jvm.Cond.selects "QuorumAlmanac$Read" ({ cls := "java/lang/Object", name := "getClass", desc := "()Ljava/lang/Class;" } : Jvm.MethodName) ({ cls := "java/lang/Object", name := "getClass", desc := "()Ljava/lang/Class;" } : Jvm.MethodName)) ∈ lw_all := lw_g (lw_at lw_m3 42 rfl) rfl
theorem q648 : (Jvm.Cond.selects "QuorumAlmanac$Read" ({ cls := "java/lang/Object", name := "equals", desc := "(Ljava/lang/Object;)Z" } : Jvm.MethodName) ({ cls := "java/lang/Object", name := "equals", desc := "(Ljava/lang/Object;)Z" } : Jvm.MethodName)) ∈ lw_all := lw_g (lw_at lw_m3 124 rfl) rfl
theorem q1816 : (Jvm.Cond.instantiable "QuorumAlmanac$Read" (7 : Nat)) ∈ lw_all := lw_g (lw_at lw_m8 92 rfl) rfl
theorem q1818 : (Jvm.Cond.instanceMethod ({ cls := "QuorumAlmanac$Read", name := "<init>", desc := "(IIIII)V" } : Jvm.MethodName)) ∈ lw_all := lw_g (lw_at lw_m8 94 rfl) rfl
theorem q1819 : (Jvm.Cond.code ({ cls := "QuorumAlmanac$Read", name := "<init>", desc := "(IIIII)V" } : Jvm.MethodName) prog_11_method_1_code (6 : Nat) (Option.none : Option Jvm.ClassFile.FieldType)) ∈ lw_all := lw_g (lw_at lw_m8 95 rfl) rfl
theorem q1820 : (Jvm.Cond.methodLink "QuorumAlmanac$Read" (1 : Nat) ({ cls := "java/lang/Object", name := "<init>", desc := "()V" } : Jvm.MethodName)) ∈ lw_all := lw_g (lw_at lw_m8 96 rfl) rfl
theorem q1821 : (Jvm.Cond.fieldLink "QuorumAlmanac$Read" (13 : Nat) "QuorumAlmanac$Read" "node" "I") ∈ lw_all := lw_g (lw_at lw_m8 97 rfl) rfl
theorem q1823 : (Jvm.Cond.fieldLink "QuorumAlmanac$Read" (17 : Nat) "QuorumAlmanac$Read" "term" "I") ∈ lw_all := lw_g (lw_at lw_m8 99 rfl) rfl
theorem q1824 : (Jvm.Cond.fieldLink "QuorumAlmanac$Read" (20 : Nat) "QuorumAlmanac$Read" "round" "I") ∈ lw_all := lw_g (lw_at lw_m8 100 rfl) rfl
theorem q1826 : (Jvm.Cond.fieldLink "QuorumAlmanac$Read" (23 : Nat) "QuorumAlmanac$Read" "key" "I") ∈ lw_all := lw_g (lw_at lw_m8 102 rfl) rfl
theorem q1828 : (Jvm.Cond.fieldLink "QuorumAlmanac$Read" (26 : Nat) "QuorumAlmanac$Read" "historyThen" "I") ∈ lw_all := lw_g (lw_at lw_m8 104 rfl) rfl
theorem q1830 : (Jvm.Cond.fieldLink "QuorumAlmanac$Read" (7 : Nat) "QuorumAlmanac$Read" "state" "C") ∈ lw_all := lw_g (lw_at lw_m8 106 rfl) rfl
theorem q1835 : (Jvm.Cond.laysFinal "QuorumAlmanac$Read" "QuorumAlmanac$Read" "node" "I") ∈ lw_all := lw_g (lw_at lw_m8 111 rfl) rfl
theorem q1836 : (Jvm.Cond.soleField "QuorumAlmanac$Read" "node") ∈ lw_all := lw_g (lw_at lw_m8 112 rfl) rfl
theorem q1837 : (Jvm.Cond.laysFinal "QuorumAlmanac$Read" "QuorumAlmanac$Read" "term" "I") ∈ lw_all := lw_g (lw_at lw_m8 113 rfl) rfl
theorem q1838 : (Jvm.Cond.soleField "QuorumAlmanac$Read" "term") ∈ lw_all := lw_g (lw_at lw_m8 114 rfl) rfl
theorem q1839 : (Jvm.Cond.laysFinal "QuorumAlmanac$Read" "QuorumAlmanac$Read" "round" "I") ∈ lw_all := lw_g (lw_at lw_m8 115 rfl) rfl
theorem q1840 : (Jvm.Cond.soleField "QuorumAlmanac$Read" "round") ∈ lw_all := lw_g (lw_at lw_m8 116 rfl) rfl
theorem q1841 : (Jvm.Cond.laysFinal "QuorumAlmanac$Read" "QuorumAlmanac$Read" "key" "I") ∈ lw_all := lw_g (lw_at lw_m8 117 rfl) rfl
theorem q1842 : (Jvm.Cond.soleField "QuorumAlmanac$Read" "key") ∈ lw_all := lw_g (lw_at lw_m8 118 rfl) rfl
theorem q1843 : (Jvm.Cond.laysFinal "QuorumAlmanac$Read" "QuorumAlmanac$Read" "historyThen" "I") ∈ lw_all := lw_g (lw_at lw_m8 119 rfl) rfl
theorem q1844 : (Jvm.Cond.soleField "QuorumAlmanac$Read" "historyThen") ∈ lw_all := lw_g (lw_at lw_m8 120 rfl) rfl
theorem q1845 : (Jvm.Cond.lays "QuorumAlmanac$Read" "QuorumAlmanac$Read" "state" "C") ∈ lw_all := lw_g (lw_at lw_m8 121 rfl) rfl
theorem q1846 : (Jvm.Cond.soleField "QuorumAlmanac$Read" "state") ∈ lw_all := lw_g (lw_at lw_m8 122 rfl) rfl
theorem q1847 : (Jvm.Cond.lays "QuorumAlmanac$Read" "QuorumAlmanac$Read" "value" "I") ∈ lw_all := lw_g (lw_at lw_m8 123 rfl) rfl
theorem q1848 : (Jvm.Cond.soleField "QuorumAlmanac$Read" "value") ∈ lw_all := lw_g (lw_at lw_m8 124 rfl) rfl
theorem q1849 : (Jvm.Cond.superclass "QuorumAlmanac$Read" "java/lang/Object") ∈ lw_all := lw_g (lw_at lw_m8 125 rfl) rfl
theorem q2665 : (Jvm.Cond.castable "QuorumAlmanac$Read" "java/lang/Object") ∈ lw_tbl := lw_at lw_m11 221 rfl
theorem in_X21 : ∀ w ∈ wsX210, w ∈ lw_all := lw_in wsX210 [1835, 1837, 1839, 1841, 1843, 1845, 1847] (by decide +kernel) (by decide +kernel)
/-! QuorumAlmanac$Place -/
set_option maxRecDepth 100000
def RX23 : String := "QuorumAlmanac$Place"
def TX23 : u_T := fun k => match k with
  | 0 => ("QuorumAlmanac$Place", "index", "I", true)
  | _ => ("QuorumAlmanac$Place", "term", "I", true)
def tyX23 : Nat → FieldType := fun k => match k with
  | 0 => .int
  | _ => .int
abbrev wsX230 : List Cond := u_ws RX23 TX23 2
theorem nmX23 : ∀ a, a < 2 → ∀ b, b < 2 → a ≠ b → (TX23 a).2.1 ≠ (TX23 b).2.1 := by decide +kernel
theorem tyX23_ok : ∀ k, k < 2 → parseFieldDescriptor (TX23 k).2.2.1 = some (tyX23 k) := by decide +kernel
abbrev cX23_init : ByteArray := prog_10_method_1_code
def yX23_init : MethodName := ⟨RX23, "<init>", "(II)V"⟩
def dkwX23_init_0 : List UInt8 := [42, 183, 0, 1, 42, 27, 181, 0, 7, 42, 28, 181, 0, 13, 177]
abbrev dktX23_init_0 : List UInt8 := dkwX23_init_0 ++ []
theorem dksX23_init_0 : cX23_init.data.toList.drop 0 = dktX23_init_0 := by decide +kernel
theorem dX23_init_0 : decode cX23_init 0 = .ok (.aload_n 0, 1) := dk_42 (dk_at dksX23_init_0 0 rfl rfl)
theorem dX23_init_1 : decode cX23_init 1 = .ok (.invokespecial 1, 3) := dk_183 0 1 (dk_at dksX23_init_0 1 rfl rfl)
theorem dX23_init_4 : decode cX23_init 4 = .ok (.aload_n 0, 1) := dk_42 (dk_at dksX23_init_0 4 rfl rfl)
theorem dX23_init_5 : decode cX23_init 5 = .ok (.iload_n 1, 1) := dk_27 (dk_at dksX23_init_0 5 rfl rfl)
theorem dX23_init_6 : decode cX23_init 6 = .ok (.putfield 7, 3) := dk_181 0 7 (dk_at dksX23_init_0 6 rfl rfl)
theorem dX23_init_9 : decode cX23_init 9 = .ok (.aload_n 0, 1) := dk_42 (dk_at dksX23_init_0 9 rfl rfl)
theorem dX23_init_10 : decode cX23_init 10 = .ok (.iload_n 2, 1) := dk_28 (dk_at dksX23_init_0 10 rfl rfl)
theorem dX23_init_11 : decode cX23_init 11 = .ok (.putfield 13, 3) := dk_181 0 13 (dk_at dksX23_init_0 11 rfl rfl)
theorem dX23_init_14 : decode cX23_init 14 = .ok (.return_, 1) := dk_177 (dk_at dksX23_init_0 14 rfl rfl)
abbrev cX23_hashCode : ByteArray := prog_10_method_3_code
def yX23_hashCode : MethodName := ⟨RX23, "hashCode", "()I"⟩
def dkwX23_hashCode_0 : List UInt8 := [18, 16, 42, 180, 0, 7, 104, 42, 180, 0, 13, 96, 172]
abbrev dktX23_hashCode_0 : List UInt8 := dkwX23_hashCode_0 ++ []
theorem dksX23_hashCode_0 : cX23_hashCode.data.toList.drop 0 = dktX23_hashCode_0 := by decide +kernel
theorem dX23_hashCode_0 : decode cX23_hashCode 0 = .ok (.ldc 16, 2) := dk_18 16 (dk_at dksX23_hashCode_0 0 rfl rfl)
theorem dX23_hashCode_2 : decode cX23_hashCode 2 = .ok (.aload_n 0, 1) := dk_42 (dk_at dksX23_hashCode_0 2 rfl rfl)
theorem dX23_hashCode_3 : decode cX23_hashCode 3 = .ok (.getfield 7, 3) := dk_180 0 7 (dk_at dksX23_hashCode_0 3 rfl rfl)
theorem dX23_hashCode_6 : decode cX23_hashCode 6 = .ok (.imul, 1) := dk_104 (dk_at dksX23_hashCode_0 6 rfl rfl)
theorem dX23_hashCode_7 : decode cX23_hashCode 7 = .ok (.aload_n 0, 1) := dk_42 (dk_at dksX23_hashCode_0 7 rfl rfl)
theorem dX23_hashCode_8 : decode cX23_hashCode 8 = .ok (.getfield 13, 3) := dk_180 0 13 (dk_at dksX23_hashCode_0 8 rfl rfl)
theorem dX23_hashCode_11 : decode cX23_hashCode 11 = .ok (.iadd, 1) := dk_96 (dk_at dksX23_hashCode_0 11 rfl rfl)
theorem dX23_hashCode_12 : decode cX23_hashCode 12 = .ok (.ireturn, 1) := dk_172 (dk_at dksX23_hashCode_0 12 rfl rfl)
abbrev cX23_equals : ByteArray := prog_10_method_2_code
def yX23_equals : MethodName := ⟨RX23, "equals", "(Ljava/lang/Object;)Z"⟩
def dkwX23_equals_1 : List UInt8 := [192, 0, 8, 180, 0, 13, 42, 180, 0, 13, 160, 0, 7, 4, 167, 0, 4, 3, 172]
abbrev dktX23_equals_1 : List UInt8 := dkwX23_equals_1 ++ []
def dkwX23_equals_0 : List UInt8 := [43, 193, 0, 8, 153, 0, 35, 43, 192, 0, 8, 180, 0, 7, 42, 180, 0, 7, 160, 0, 21, 43]
abbrev dktX23_equals_0 : List UInt8 := dkwX23_equals_0 ++ dktX23_equals_1
theorem dksX23_equals_0 : cX23_equals.data.toList.drop 0 = dktX23_equals_0 := by decide +kernel
theorem dksX23_equals_1 : cX23_equals.data.toList.drop 22 = dktX23_equals_1 := dk_seg dksX23_equals_0 22 rfl rfl
theorem dX23_equals_0 : decode cX23_equals 0 = .ok (.aload_n 1, 1) := dk_43 (dk_at dksX23_equals_0 0 rfl rfl)
theorem dX23_equals_1 : decode cX23_equals 1 = .ok (.instanceof 8, 3) := dk_193 0 8 (dk_at dksX23_equals_0 1 rfl rfl)
theorem dX23_equals_4 : decode cX23_equals 4 = .ok (.ifCond .eq 35, 3) := dk_153 0 35 (dk_at dksX23_equals_0 4 rfl rfl)
theorem dX23_equals_7 : decode cX23_equals 7 = .ok (.aload_n 1, 1) := dk_43 (dk_at dksX23_equals_0 7 rfl rfl)
theorem dX23_equals_8 : decode cX23_equals 8 = .ok (.checkcast 8, 3) := dk_192 0 8 (dk_at dksX23_equals_0 8 rfl rfl)
theorem dX23_equals_11 : decode cX23_equals 11 = .ok (.getfield 7, 3) := dk_180 0 7 (dk_at dksX23_equals_0 11 rfl rfl)
theorem dX23_equals_14 : decode cX23_equals 14 = .ok (.aload_n 0, 1) := dk_42 (dk_at dksX23_equals_0 14 rfl rfl)
theorem dX23_equals_15 : decode cX23_equals 15 = .ok (.getfield 7, 3) := dk_180 0 7 (dk_at dksX23_equals_0 15 rfl rfl)
theorem dX23_equals_18 : decode cX23_equals 18 = .ok (.if_icmp .ne 21, 3) := dk_160 0 21 (dk_at dksX23_equals_0 18 rfl rfl)
theorem dX23_equals_21 : decode cX23_equals 21 = .ok (.aload_n 1, 1) := dk_43 (dk_at dksX23_equals_0 21 rfl rfl)
theorem dX23_equals_22 : decode cX23_equals 22 = .ok (.checkcast 8, 3) := dk_192 0 8 (dk_at dksX23_equals_1 0 rfl rfl)
theorem dX23_equals_25 : decode cX23_equals 25 = .ok (.getfield 13, 3) := dk_180 0 13 (dk_at dksX23_equals_1 3 rfl rfl)
theorem dX23_equals_28 : decode cX23_equals 28 = .ok (.aload_n 0, 1) := dk_42 (dk_at dksX23_equals_1 6 rfl rfl)
theorem dX23_equals_29 : decode cX23_equals 29 = .ok (.getfield 13, 3) := dk_180 0 13 (dk_at dksX23_equals_1 7 rfl rfl)
theorem dX23_equals_32 : decode cX23_equals 32 = .ok (.if_icmp .ne 7, 3) := dk_160 0 7 (dk_at dksX23_equals_1 10 rfl rfl)
theorem dX23_equals_35 : decode cX23_equals 35 = .ok (.iconst 1, 1) := dk_4 (dk_at dksX23_equals_1 13 rfl rfl)
theorem dX23_equals_36 : decode cX23_equals 36 = .ok (.goto 4, 3) := dk_167 0 4 (dk_at dksX23_equals_1 14 rfl rfl)
theorem dX23_equals_39 : decode cX23_equals 39 = .ok (.iconst 0, 1) := dk_3 (dk_at dksX23_equals_1 17 rfl rfl)
theorem dX23_equals_40 : decode cX23_equals 40 = .ok (.ireturn, 1) := dk_172 (dk_at dksX23_equals_1 18 rfl rfl)
theorem q93 : (Jvm.Cond.initialized "QuorumAlmanac$Place") ∈ lw_all := lw_g (lw_at lw_m1 49 rfl) rfl
theorem q430 : (Jvm.Cond.instantiable "QuorumAlmanac$Place" (2 : Nat)) ∈ lw_all := lw_g (lw_at lw_m2 146 rfl) rfl
theorem q432 : (Jvm.Cond.instanceMethod ({ cls := "QuorumAlmanac$Place", name := "<init>", desc := "(II)V" } : Jvm.MethodName)) ∈ lw_all := lw_g (lw_at lw_m2 148 rfl) rfl
theorem q433 : (Jvm.Cond.code ({ cls := "QuorumAlmanac$Place", name := "<init>", desc := "(II)V" } : Jvm.MethodName) prog_10_method_1_code (3 : Nat) (Option.none : Option Jvm.ClassFile.FieldType)) ∈ lw_all := lw_g (lw_at lw_m2 149 rfl) rfl
theorem q434 : (Jvm.Cond.methodLink "QuorumAlmanac$Place" (1 : Nat) ({ cls := "java/lang/Object", name := "<init>", desc := "()V" } : Jvm.MethodName)) ∈ lw_all := lw_g (lw_at lw_m2 150 rfl) rfl
theorem q435 : (Jvm.Cond.fieldLink "QuorumAlmanac$Place" (7 : Nat) "QuorumAlmanac$Place" "index" "I") ∈ lw_all := lw_g (lw_at lw_m2 151 rfl) rfl
theorem q436 : (Jvm.Cond.fieldLink "QuorumAlmanac$Place" (13 : Nat) "QuorumAlmanac$Place" "term" "I") ∈ lw_all := lw_g (lw_at lw_m2 152 rfl) rfl
theorem q437 : (Jvm.Cond.laysFinal "QuorumAlmanac$Place" "QuorumAlmanac$Place" "index" "I") ∈ lw_all := lw_g (lw_at lw_m2 153 rfl) rfl
theorem q438 : (Jvm.Cond.soleField "QuorumAlmanac$Place" "index") ∈ lw_all := lw_g (lw_at lw_m2 154 rfl) rfl
theorem q439 : (Jvm.Cond.laysFinal "QuorumAlmanac$Place" "QuorumAlmanac$Place" "term" "I") ∈ lw_all := lw_g (lw_at lw_m2 155 rfl) rfl
theorem q440 : (Jvm.Cond.soleField "QuorumAlmanac$Place" "term") ∈ lw_all := lw_g (lw_at lw_m2 156 rfl) rfl
theorem q441 : (Jvm.Cond.superclass "QuorumAlmanac$Place" "java/lang/Object") ∈ lw_all := lw_g (lw_at lw_m2 157 rfl) rfl
theorem q460 : (Jvm.Cond.selects "QuorumAlmanac$Place" ({ cls := "java/lang/Object", name := "hashCode", desc := "()I" } : Jvm.MethodName) ({ cls := "QuorumAlmanac$Place", name := "hashCode", desc := "()I" } : Jvm.MethodName)) ∈ lw_all := lw_g (lw_at lw_m2 176 rfl) rfl
theorem q461 : (Jvm.Cond.instanceMethod ({ cls := "QuorumAlmanac$Place", name := "hashCode", desc := "()I" } : Jvm.MethodName)) ∈ lw_all := lw_g (lw_at lw_m2 177 rfl) rfl
theorem q462 : (Jvm.Cond.code ({ cls := "QuorumAlmanac$Place", name := "hashCode", desc := "()I" } : Jvm.MethodName) prog_10_method_3_code (1 : Nat) (Option.some Jvm.ClassFile.FieldType.int)) ∈ lw_all := lw_g (lw_at lw_m2 178 rfl) rfl
theorem q463 : (Jvm.Cond.constant "QuorumAlmanac$Place" (16 : Nat) (65536 : Int32)) ∈ lw_all := lw_g (lw_at lw_m2 179 rfl) rfl
theorem q565 : (Jvm.Cond.selects "QuorumAlmanac$Place" ({ cls := "java/lang/Object", name := "getClass", desc := "()Ljava/lang/Class;" } : Jvm.MethodName) ({ cls := "java/lang/Object", name := "getClass", desc := "()Ljava/lang/Class;" } : Jvm.MethodName)) ∈ lw_all := lw_g (lw_at lw_m3 41 rfl) rfl
theorem q644 : (Jvm.Cond.selects "QuorumAlmanac$Place" ({ cls := "java/lang/Object", name := "equals", desc := "(Ljava/lang/Object;)Z" } : Jvm.MethodName) ({ cls := "QuorumAlmanac$Place", name := "equals", desc := "(Ljava/lang/Object;)Z" } : Jvm.MethodName)) ∈ lw_all := lw_g (lw_at lw_m3 120 rfl) rfl
theorem q645 : (Jvm.Cond.instanceMethod ({ cls := "QuorumAlmanac$Place", name := "equals", desc := "(Ljava/lang/Object;)Z" } : Jvm.MethodName)) ∈ lw_all := lw_g (lw_at lw_m3 121 rfl) rfl
theorem q646 : (Jvm.Cond.code ({ cls := "QuorumAlmanac$Place", name := "equals", desc := "(Ljava/lang/Object;)Z" } : Jvm.MethodName) prog_10_method_2_code (2 : Nat) (Option.some Jvm.ClassFile.FieldType.boolean)) ∈ lw_all := lw_g (lw_at lw_m3 122 rfl) rfl
theorem q647 : (Jvm.Cond.classLink "QuorumAlmanac$Place" (8 : Nat) "QuorumAlmanac$Place") ∈ lw_all := lw_g (lw_at lw_m3 123 rfl) rfl
theorem q2669 : (Jvm.Cond.castable "QuorumAlmanac$Place" "java/lang/Object") ∈ lw_tbl := lw_at lw_m11 225 rfl
theorem in_X23 : ∀ w ∈ wsX230, w ∈ lw_all := lw_in wsX230 [437, 439] (by decide +kernel) (by decide +kernel)
