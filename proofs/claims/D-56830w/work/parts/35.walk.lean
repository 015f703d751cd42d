-- QuorumAlmanacModel.term(I)I
def m_X6_term (a0 : Nat) (x1 : Int32) : Ms Int32 :=
  bn (ko [15] a0 (m_X6_failsNode a0 x1)) fun r28 =>
  jn (fun (v29 : Int32) =>
      rt v29)
    fun j30 =>
    if r28 = 0 then
      gR [15] 128 a0 fun x31 =>
      aR 34 x31 x1 fun x32 =>
      gI [16] 56 x32 fun x33 =>
      j30 x33
    else
      j30 0
theorem hm_X6_term : (yX6_term.cls ≠ "java/lang/invoke/MethodHandle" ∧ yX6_term.cls ≠ "java/lang/invoke/VarHandle" ∧ (parseMethodDescriptor yX6_term.desc).map (fun d => d.parameters.length) = some 1) := by decide +kernel
set_option maxHeartbeats 4000000 in
set_option maxRecDepth 100000 in
theorem L_X6_term {G : GT} (hG : GOK G) (a0 : Nat) (x1 : Int32) : Cal G yX6_term (ws_ yX6_term cX6_term 2 (Option.some Jvm.ClassFile.FieldType.int)) 4 103 [.ref a0, .int x1] rI (m_X6_term a0 x1) := by
  refine Cal_of hG (by decide +kernel) (Nat.le_of_ble_eq_true rfl) (lv0 := [(0, .ref a0), (1, .int x1)]) rfl (fun X σ0 => ?_)
  delta m_X6_term
  refine Ex_aload_n dX6_term_0 rfl 0 rfl ?_
  refine Ex_iload_n dX6_term_1 rfl 1 rfl ?_
  refine Ex_bnI (Inv_V (L_X6_failsNode hG a0 x1) (lw_V q2109 q2111 qs33 q54 q2112) oe_15 ⟨rfl, hm_X6_failsNode⟩ (by decide) (by decide) dX6_term_2 rfl (Nat.le_of_ble_eq_true rfl)) (fun r28 => ?_)
  refine Ex_jn (γ := Int32) (pj := 21) (fun v29 => []) (fun v29 => [.int v29]) (fun v29 => ?_) (fun j30 hj30 => ?_)
  · exact Ex_ireturn dX6_term_21 rfl
  · refine Ex_if_eq (tgt := 12) dX6_term_5 (by decide) ?_ ?_
    · refine Ex_aload_n dX6_term_12 rfl 0 rfl ?_
      refine Ex_gR dX6_term_13 lk_X6_15 rfl (fun x31 => ?_)
      refine Ex_iload_n dX6_term_16 rfl 1 rfl ?_
      refine Ex_aR (j := 4) rfl rfl dX6_term_17 (fun x32 => ?_)
      refine Ex_gI dX6_term_18 lk_X6_127 rfl (fun x33 => ?_)
      refine Ex_lv [] (lv' := []) rfl ?_
      exact hj30 x33
    · refine Ex_iconst (v := 0) dX6_term_8 (by decide) ?_
      refine Ex_goto (tgt := 21) dX6_term_9 (by decide) ?_
      refine Ex_lv [] (lv' := []) rfl ?_
      exact hj30 0
-- QuorumAlmanacModel.vote(I)I
def m_X6_vote (a0 : Nat) (x1 : Int32) : Ms Int32 :=
  bn (ko [15] a0 (m_X6_failsNode a0 x1)) fun r36 =>
  if r36 = 0 then
    gR [15] 128 a0 fun x37 =>
    aR 34 x37 x1 fun x38 =>
    gI [16] 57 x38 fun x39 =>
    jn (fun (v40 : Int32 × Nat) =>
        bn (ko [15] v40.2 (m_X6_fails v40.2 v40.1)) fun r42 =>
        jn (fun (v43 : Int32) =>
            rt v43)
          fun j44 =>
          if r42 = 0 then
            gR [15] 128 a0 fun x45 =>
            aR 34 x45 x1 fun x46 =>
            gI [16] 57 x46 fun x47 =>
            j44 x47
          else
            j44 0)
      fun j41 =>
      if ¬ x39 = (-1) then
        j41 (0, a0)
      else
        j41 (2, a0)
  else
    rt 0
theorem hm_X6_vote : (yX6_vote.cls ≠ "java/lang/invoke/MethodHandle" ∧ yX6_vote.cls ≠ "java/lang/invoke/VarHandle" ∧ (parseMethodDescriptor yX6_vote.desc).map (fun d => d.parameters.length) = some 1) := by decide +kernel
set_option maxHeartbeats 4000000 in
set_option maxRecDepth 100000 in
theorem L_X6_vote {G : GT} (hG : GOK G) (a0 : Nat) (x1 : Int32) : Cal G yX6_vote (ws_ yX6_vote cX6_vote 2 (Option.some Jvm.ClassFile.FieldType.int)) 4 103 [.ref a0, .int x1] rI (m_X6_vote a0 x1) := by
  refine Cal_of hG (by decide +kernel) (Nat.le_of_ble_eq_true rfl) (lv0 := [(0, .ref a0), (1, .int x1)]) rfl (fun X σ0 => ?_)
  delta m_X6_vote
  refine Ex_aload_n dX6_vote_0 rfl 0 rfl ?_
  refine Ex_iload_n dX6_vote_1 rfl 1 rfl ?_
  refine Ex_bnI (Inv_V (L_X6_failsNode hG a0 x1) (lw_V q2109 q2111 qs33 q54 q2112) oe_15 ⟨rfl, hm_X6_failsNode⟩ (by decide) (by decide) dX6_vote_2 rfl (Nat.le_of_ble_eq_true rfl)) (fun r36 => ?_)
  refine Ex_if_eq (tgt := 10) dX6_vote_5 (by decide) ?_ ?_
  · refine Ex_aload_n dX6_vote_10 rfl 0 rfl ?_
    refine Ex_aload_n dX6_vote_11 rfl 0 rfl ?_
    refine Ex_gR dX6_vote_12 lk_X6_15 rfl (fun x37 => ?_)
    refine Ex_iload_n dX6_vote_15 rfl 1 rfl ?_
    refine Ex_aR (j := 4) rfl rfl dX6_vote_16 (fun x38 => ?_)
    refine Ex_gI dX6_vote_17 lk_X6_130 rfl (fun x39 => ?_)
    refine Ex_iconst (v := (-1)) dX6_vote_20 (by decide) ?_
    refine Ex_jn (γ := Int32 × Nat) (pj := 29) (fun v40 => [(0, .ref a0), (1, .int x1)]) (fun v40 => [.int v40.1, .ref v40.2]) (fun v40 => ?_) (fun j41 hj41 => ?_)
    · refine Ex_bnI (Inv_V (L_X6_fails hG v40.2 v40.1) (lw_V q2116 q2118 qs34 q54 q2119) oe_15 ⟨rfl, hm_X6_fails⟩ (by decide) (by decide) dX6_vote_29 rfl (Nat.le_of_ble_eq_true rfl)) (fun r42 => ?_)
      refine Ex_jn (γ := Int32) (pj := 48) (fun v43 => []) (fun v43 => [.int v43]) (fun v43 => ?_) (fun j44 hj44 => ?_)
      · exact Ex_ireturn dX6_vote_48 rfl
      · refine Ex_if_eq (tgt := 39) dX6_vote_32 (by decide) ?_ ?_
        · refine Ex_aload_n dX6_vote_39 rfl 0 rfl ?_
          refine Ex_gR dX6_vote_40 lk_X6_15 rfl (fun x45 => ?_)
          refine Ex_iload_n dX6_vote_43 rfl 1 rfl ?_
          refine Ex_aR (j := 4) rfl rfl dX6_vote_44 (fun x46 => ?_)
          refine Ex_gI dX6_vote_45 lk_X6_130 rfl (fun x47 => ?_)
          refine Ex_lv [] (lv' := []) rfl ?_
          exact hj44 x47
        · refine Ex_iconst (v := 0) dX6_vote_35 (by decide) ?_
          refine Ex_goto (tgt := 48) dX6_vote_36 (by decide) ?_
          refine Ex_lv [] (lv' := []) rfl ?_
          exact hj44 0
    · refine Ex_icmp_ne (tgt := 28) dX6_vote_21 (by decide) ?_ ?_
      · refine Ex_iconst (v := 0) dX6_vote_28 (by decide) ?_
        exact hj41 (0, a0)
      · refine Ex_iconst (v := 2) dX6_vote_24 (by decide) ?_
        refine Ex_goto (tgt := 29) dX6_vote_25 (by decide) ?_
        exact hj41 (2, a0)
  · refine Ex_iconst (v := 0) dX6_vote_8 (by decide) ?_
    exact Ex_ireturn dX6_vote_9 rfl
-- QuorumAlmanacModel.clock(I)I
def m_X6_clock (a0 : Nat) (x1 : Int32) : Ms Int32 :=
  bn (ko [15] a0 (m_X6_failsNode a0 x1)) fun r28 =>
  jn (fun (v29 : Int32) =>
      rt v29)
    fun j30 =>
    if r28 = 0 then
      gR [15] 128 a0 fun x31 =>
      aR 34 x31 x1 fun x32 =>
      gI [16] 55 x32 fun x33 =>
      j30 x33
    else
      j30 0
theorem hm_X6_clock : (yX6_clock.cls ≠ "java/lang/invoke/MethodHandle" ∧ yX6_clock.cls ≠ "java/lang/invoke/VarHandle" ∧ (parseMethodDescriptor yX6_clock.desc).map (fun d => d.parameters.length) = some 1) := by decide +kernel
set_option maxHeartbeats 4000000 in
set_option maxRecDepth 100000 in
theorem L_X6_clock {G : GT} (hG : GOK G) (a0 : Nat) (x1 : Int32) : Cal G yX6_clock (ws_ yX6_clock cX6_clock 2 (Option.some Jvm.ClassFile.FieldType.int)) 4 103 [.ref a0, .int x1] rI (m_X6_clock a0 x1) := by
  refine Cal_of hG (by decide +kernel) (Nat.le_of_ble_eq_true rfl) (lv0 := [(0, .ref a0), (1, .int x1)]) rfl (fun X σ0 => ?_)
  delta m_X6_clock
  refine Ex_aload_n dX6_clock_0 rfl 0 rfl ?_
  refine Ex_iload_n dX6_clock_1 rfl 1 rfl ?_
  refine Ex_bnI (Inv_V (L_X6_failsNode hG a0 x1) (lw_V q2109 q2111 qs33 q54 q2112) oe_15 ⟨rfl, hm_X6_failsNode⟩ (by decide) (by decide) dX6_clock_2 rfl (Nat.le_of_ble_eq_true rfl)) (fun r28 => ?_)
  refine Ex_jn (γ := Int32) (pj := 21) (fun v29 => []) (fun v29 => [.int v29]) (fun v29 => ?_) (fun j30 hj30 => ?_)
  · exact Ex_ireturn dX6_clock_21 rfl
  · refine Ex_if_eq (tgt := 12) dX6_clock_5 (by decide) ?_ ?_
    · refine Ex_aload_n dX6_clock_12 rfl 0 rfl ?_
      refine Ex_gR dX6_clock_13 lk_X6_15 rfl (fun x31 => ?_)
      refine Ex_iload_n dX6_clock_16 rfl 1 rfl ?_
      refine Ex_aR (j := 4) rfl rfl dX6_clock_17 (fun x32 => ?_)
      refine Ex_gI dX6_clock_18 lk_X6_81 rfl (fun x33 => ?_)
      refine Ex_lv [] (lv' := []) rfl ?_
      exact hj30 x33
    · refine Ex_iconst (v := 0) dX6_clock_8 (by decide) ?_
      refine Ex_goto (tgt := 21) dX6_clock_9 (by decide) ?_
      refine Ex_lv [] (lv' := []) rfl ?_
      exact hj30 0
-- QuorumAlmanacModel.last(I)I
def m_X6_last (a0 : Nat) (x1 : Int32) : Ms Int32 :=
  bn (ko [15] a0 (m_X6_failsNode a0 x1)) fun r28 =>
  jn (fun (v29 : Int32) =>
      rt v29)
    fun j30 =>
    if r28 = 0 then
      gR [15] 128 a0 fun x31 =>
      aR 34 x31 x1 fun x32 =>
      bn (ko [16] x32 (m_X7_last x32)) fun r33 =>
      j30 r33
    else
      j30 0
theorem hm_X6_last : (yX6_last.cls ≠ "java/lang/invoke/MethodHandle" ∧ yX6_last.cls ≠ "java/lang/invoke/VarHandle" ∧ (parseMethodDescriptor yX6_last.desc).map (fun d => d.parameters.length) = some 1) := by decide +kernel
set_option maxHeartbeats 4000000 in
set_option maxRecDepth 100000 in
theorem L_X6_last {G : GT} (hG : GOK G) (a0 : Nat) (x1 : Int32) : Cal G yX6_last (ws_ yX6_last cX6_last 2 (Option.some Jvm.ClassFile.FieldType.int)) 4 103 [.ref a0, .int x1] rI (m_X6_last a0 x1) := by
  refine Cal_of hG (by decide +kernel) (Nat.le_of_ble_eq_true rfl) (lv0 := [(0, .ref a0), (1, .int x1)]) rfl (fun X σ0 => ?_)
  delta m_X6_last
  refine Ex_aload_n dX6_last_0 rfl 0 rfl ?_
  refine Ex_iload_n dX6_last_1 rfl 1 rfl ?_
  refine Ex_bnI (Inv_V (L_X6_failsNode hG a0 x1) (lw_V q2109 q2111 qs33 q54 q2112) oe_15 ⟨rfl, hm_X6_failsNode⟩ (by decide) (by decide) dX6_last_2 rfl (Nat.le_of_ble_eq_true rfl)) (fun r28 => ?_)
  refine Ex_jn (γ := Int32) (pj := 21) (fun v29 => []) (fun v29 => [.int v29]) (fun v29 => ?_) (fun j30 hj30 => ?_)
  · exact Ex_ireturn dX6_last_21 rfl
  · refine Ex_if_eq (tgt := 12) dX6_last_5 (by decide) ?_ ?_
    · refine Ex_aload_n dX6_last_12 rfl 0 rfl ?_
      refine Ex_gR dX6_last_13 lk_X6_15 rfl (fun x31 => ?_)
      refine Ex_iload_n dX6_last_16 rfl 1 rfl ?_
      refine Ex_aR (j := 4) rfl rfl dX6_last_17 (fun x32 => ?_)
      refine Ex_bnI (Inv_V (L_X7_last hG x32) (lw_V q2390 q2139 q2140 q55 q2141) oe_16 ⟨rfl, hm_X7_last⟩ (by decide) (by decide) dX6_last_18 rfl (Nat.le_of_ble_eq_true rfl)) (fun r33 => ?_)
      refine Ex_lv [] (lv' := []) rfl ?_
      exact hj30 r33
    · refine Ex_iconst (v := 0) dX6_last_8 (by decide) ?_
      refine Ex_goto (tgt := 21) dX6_last_9 (by decide) ?_
      refine Ex_lv [] (lv' := []) rfl ?_
      exact hj30 0
-- QuorumAlmanacModel.synced(I)I
def m_X6_synced (a0 : Nat) (x1 : Int32) : Ms Int32 :=
  bn (ko [15] a0 (m_X6_failsNode a0 x1)) fun r28 =>
  jn (fun (v29 : Int32) =>
      rt v29)
    fun j30 =>
    if r28 = 0 then
      gR [15] 128 a0 fun x31 =>
      aR 34 x31 x1 fun x32 =>
      gI [16] 60 x32 fun x33 =>
      j30 x33
    else
      j30 0
theorem hm_X6_synced : (yX6_synced.cls ≠ "java/lang/invoke/MethodHandle" ∧ yX6_synced.cls ≠ "java/lang/invoke/VarHandle" ∧ (parseMethodDescriptor yX6_synced.desc).map (fun d => d.parameters.length) = some 1) := by decide +kernel
set_option maxHeartbeats 4000000 in
set_option maxRecDepth 100000 in
theorem L_X6_synced {G : GT} (hG : GOK G) (a0 : Nat) (x1 : Int32) : Cal G yX6_synced (ws_ yX6_synced cX6_synced 2 (Option.some Jvm.ClassFile.FieldType.int)) 4 103 [.ref a0, .int x1] rI (m_X6_synced a0 x1) := by
  refine Cal_of hG (by decide +kernel) (Nat.le_of_ble_eq_true rfl) (lv0 := [(0, .ref a0), (1, .int x1)]) rfl (fun X σ0 => ?_)
  delta m_X6_synced
  refine Ex_aload_n dX6_synced_0 rfl 0 rfl ?_
  refine Ex_iload_n dX6_synced_1 rfl 1 rfl ?_
  refine Ex_bnI (Inv_V (L_X6_failsNode hG a0 x1) (lw_V q2109 q2111 qs33 q54 q2112) oe_15 ⟨rfl, hm_X6_failsNode⟩ (by decide) (by decide) dX6_synced_2 rfl (Nat.le_of_ble_eq_true rfl)) (fun r28 => ?_)
  refine Ex_jn (γ := Int32) (pj := 21) (fun v29 => []) (fun v29 => [.int v29]) (fun v29 => ?_) (fun j30 hj30 => ?_)
  · exact Ex_ireturn dX6_synced_21 rfl
  · refine Ex_if_eq (tgt := 12) dX6_synced_5 (by decide) ?_ ?_
    · refine Ex_aload_n dX6_synced_12 rfl 0 rfl ?_
      refine Ex_gR dX6_synced_13 lk_X6_15 rfl (fun x31 => ?_)
      refine Ex_iload_n dX6_synced_16 rfl 1 rfl ?_
      refine Ex_aR (j := 4) rfl rfl dX6_synced_17 (fun x32 => ?_)
      refine Ex_gI dX6_synced_18 lk_X6_136 rfl (fun x33 => ?_)
      refine Ex_lv [] (lv' := []) rfl ?_
      exact hj30 x33
    · refine Ex_iconst (v := 0) dX6_synced_8 (by decide) ?_
      refine Ex_goto (tgt := 21) dX6_synced_9 (by decide) ?_
      refine Ex_lv [] (lv' := []) rfl ?_
      exact hj30 0
-- QuorumAlmanacModel.committed(I)I
def m_X6_committed (a0 : Nat) (x1 : Int32) : Ms Int32 :=
  bn (ko [15] a0 (m_X6_failsNode a0 x1)) fun r28 =>
  jn (fun (v29 : Int32) =>
      rt v29)
    fun j30 =>
    if r28 = 0 then
      gR [15] 128 a0 fun x31 =>
      aR 34 x31 x1 fun x32 =>
      gI [16] 61 x32 fun x33 =>
      j30 x33
    else
      j30 0
theorem hm_X6_committed : (yX6_committed.cls ≠ "java/lang/invoke/MethodHandle" ∧ yX6_committed.cls ≠ "java/lang/invoke/VarHandle" ∧ (parseMethodDescriptor yX6_committed.desc).map (fun d => d.parameters.length) = some 1) := by decide +kernel
set_option maxHeartbeats 4000000 in
set_option maxRecDepth 100000 in
theorem L_X6_committed {G : GT} (hG : GOK G) (a0 : Nat) (x1 : Int32) : Cal G yX6_committed (ws_ yX6_committed cX6_committed 2 (Option.some Jvm.ClassFile.FieldType.int)) 4 103 [.ref a0, .int x1] rI (m_X6_committed a0 x1) := by
  refine Cal_of hG (by decide +kernel) (Nat.le_of_ble_eq_true rfl) (lv0 := [(0, .ref a0), (1, .int x1)]) rfl (fun X σ0 => ?_)
  delta m_X6_committed
  refine Ex_aload_n dX6_committed_0 rfl 0 rfl ?_
  refine Ex_iload_n dX6_committed_1 rfl 1 rfl ?_
  refine Ex_bnI (Inv_V (L_X6_failsNode hG a0 x1) (lw_V q2109 q2111 qs33 q54 q2112) oe_15 ⟨rfl, hm_X6_failsNode⟩ (by decide) (by decide) dX6_committed_2 rfl (Nat.le_of_ble_eq_true rfl)) (fun r28 => ?_)
  refine Ex_jn (γ := Int32) (pj := 21) (fun v29 => []) (fun v29 => [.int v29]) (fun v29 => ?_) (fun j30 hj30 => ?_)
  · exact Ex_ireturn dX6_committed_21 rfl
  · refine Ex_if_eq (tgt := 12) dX6_committed_5 (by decide) ?_ ?_
    · refine Ex_aload_n dX6_committed_12 rfl 0 rfl ?_
      refine Ex_gR dX6_committed_13 lk_X6_15 rfl (fun x31 => ?_)
      refine Ex_iload_n dX6_committed_16 rfl 1 rfl ?_
      refine Ex_aR (j := 4) rfl rfl dX6_committed_17 (fun x32 => ?_)
      refine Ex_gI dX6_committed_18 lk_X6_108 rfl (fun x33 => ?_)
      refine Ex_lv [] (lv' := []) rfl ?_
      exact hj30 x33
    · refine Ex_iconst (v := 0) dX6_committed_8 (by decide) ?_
      refine Ex_goto (tgt := 21) dX6_committed_9 (by decide) ?_
      refine Ex_lv [] (lv' := []) rfl ?_
      exact hj30 0
-- QuorumAlmanacModel.snapshot(I)I
def m_X6_snapshot (a0 : Nat) (x1 : Int32) : Ms Int32 :=
  bn (ko [15] a0 (m_X6_failsNode a0 x1)) fun r30 =>
  jn (fun (v31 : Int32) =>
      rt v31)
    fun j32 =>
    if r30 = 0 then
      gR [15] 128 a0 fun x33 =>
      aR 34 x33 x1 fun x34 =>
      gR [16] 132 x34 fun x35 =>
      gI [17] 68 x35 fun x36 =>
      j32 x36
    else
      j32 0
theorem hm_X6_snapshot : (yX6_snapshot.cls ≠ "java/lang/invoke/MethodHandle" ∧ yX6_snapshot.cls ≠ "java/lang/invoke/VarHandle" ∧ (parseMethodDescriptor yX6_snapshot.desc).map (fun d => d.parameters.length) = some 1) := by decide +kernel
set_option maxHeartbeats 4000000 in
set_option maxRecDepth 100000 in
theorem L_X6_snapshot {G : GT} (hG : GOK G) (a0 : Nat) (x1 : Int32) : Cal G yX6_snapshot (ws_ yX6_snapshot cX6_snapshot 2 (Option.some Jvm.ClassFile.FieldType.int)) 4 103 [.ref a0, .int x1] rI (m_X6_snapshot a0 x1) := by
  refine Cal_of hG (by decide +kernel) (Nat.le_of_ble_eq_true rfl) (lv0 := [(0, .ref a0), (1, .int x1)]) rfl (fun X σ0 => ?_)
  delta m_X6_snapshot
  refine Ex_aload_n dX6_snapshot_0 rfl 0 rfl ?_
  refine Ex_iload_n dX6_snapshot_1 rfl 1 rfl ?_
  refine Ex_bnI (Inv_V (L_X6_failsNode hG a0 x1) (lw_V q2109 q2111 qs33 q54 q2112) oe_15 ⟨rfl, hm_X6_failsNode⟩ (by decide) (by decide) dX6_snapshot_2 rfl (Nat.le_of_ble_eq_true rfl)) (fun r30 => ?_)
  refine Ex_jn (γ := Int32) (pj := 24) (fun v31 => []) (fun v31 => [.int v31]) (fun v31 => ?_) (fun j32 hj32 => ?_)
  · exact Ex_ireturn dX6_snapshot_24 rfl
  · refine Ex_if_eq (tgt := 12) dX6_snapshot_5 (by decide) ?_ ?_
    · refine Ex_aload_n dX6_snapshot_12 rfl 0 rfl ?_
      refine Ex_gR dX6_snapshot_13 lk_X6_15 rfl (fun x33 => ?_)
      refine Ex_iload_n dX6_snapshot_16 rfl 1 rfl ?_
      refine Ex_aR (j := 4) rfl rfl dX6_snapshot_17 (fun x34 => ?_)
      refine Ex_gR dX6_snapshot_18 lk_X6_111 rfl (fun x35 => ?_)
      refine Ex_gI dX6_snapshot_21 lk_X6_115 rfl (fun x36 => ?_)
      refine Ex_lv [] (lv' := []) rfl ?_
      exact hj32 x36
    · refine Ex_iconst (v := 0) dX6_snapshot_8 (by decide) ?_
      refine Ex_goto (tgt := 24) dX6_snapshot_9 (by decide) ?_
      refine Ex_lv [] (lv' := []) rfl ?_
      exact hj32 0
-- QuorumAlmanacModel.members(I)I
def m_X6_members (a0 : Nat) (x1 : Int32) : Ms Int32 :=
  bn (ko [15] a0 (m_X6_failsNode a0 x1)) fun r28 =>
  jn (fun (v29 : Int32) =>
      rt v29)
    fun j30 =>
    if r28 = 0 then
      gR [15] 128 a0 fun x31 =>
      aR 34 x31 x1 fun x32 =>
      bn (ko [16] x32 (m_X7_members x32)) fun r33 =>
      j30 r33
    else
      j30 0
theorem hm_X6_members : (yX6_members.cls ≠ "java/lang/invoke/MethodHandle" ∧ yX6_members.cls ≠ "java/lang/invoke/VarHandle" ∧ (parseMethodDescriptor yX6_members.desc).map (fun d => d.parameters.length) = some 1) := by decide +kernel
set_option maxHeartbeats 4000000 in
set_option maxRecDepth 100000 in
theorem L_X6_members {G : GT} (hG : GOK G) (a0 : Nat) (x1 : Int32) : Cal G yX6_members (ws_ yX6_members cX6_members 2 (Option.some Jvm.ClassFile.FieldType.int)) 9 210 [.ref a0, .int x1] rI (m_X6_members a0 x1) := by
  refine Cal_of hG (by decide +kernel) (Nat.le_of_ble_eq_true rfl) (lv0 := [(0, .ref a0), (1, .int x1)]) rfl (fun X σ0 => ?_)
  delta m_X6_members
  refine Ex_aload_n dX6_members_0 rfl 0 rfl ?_
  refine Ex_iload_n dX6_members_1 rfl 1 rfl ?_
  refine Ex_bnI (Inv_V (L_X6_failsNode hG a0 x1) (lw_V q2109 q2111 qs33 q54 q2112) oe_15 ⟨rfl, hm_X6_failsNode⟩ (by decide) (by decide) dX6_members_2 rfl (Nat.le_of_ble_eq_true rfl)) (fun r28 => ?_)
  refine Ex_jn (γ := Int32) (pj := 21) (fun v29 => []) (fun v29 => [.int v29]) (fun v29 => ?_) (fun j30 hj30 => ?_)
  · exact Ex_ireturn dX6_members_21 rfl
  · refine Ex_if_eq (tgt := 12) dX6_members_5 (by decide) ?_ ?_
    · refine Ex_aload_n dX6_members_12 rfl 0 rfl ?_
      refine Ex_gR dX6_members_13 lk_X6_15 rfl (fun x31 => ?_)
      refine Ex_iload_n dX6_members_16 rfl 1 rfl ?_
      refine Ex_aR (j := 4) rfl rfl dX6_members_17 (fun x32 => ?_)
      refine Ex_bnI (Inv_V (L_X7_members hG x32) (lw_V q2407 q2135 q2136 q55 q2137) oe_16 ⟨rfl, hm_X7_members⟩ (by decide) (by decide) dX6_members_18 rfl (Nat.le_of_ble_eq_true rfl)) (fun r33 => ?_)
      refine Ex_lv [] (lv' := []) rfl ?_
      exact hj30 r33
    · refine Ex_iconst (v := 0) dX6_members_8 (by decide) ?_
      refine Ex_goto (tgt := 21) dX6_members_9 (by decide) ?_
      refine Ex_lv [] (lv' := []) rfl ?_
      exact hj30 0
-- QuorumAlmanacModel$Node.has(I)Z
def m_X7_has (a0 : Nat) (x1 : Int32) : Ms Int32 :=
  gR [16] 132 a0 fun x26 =>
  gI [17] 68 x26 fun x27 =>
  jn (fun (v28 : Int32) =>
      ck (v28 = 0 ∨ v28 = 1) <|
      rt v28)
    fun j29 =>
    jn (fun (v30 : Unit) =>
        j29 0)
      fun j31 =>
      if x1 ≤ x27 then
        j31 ()
      else
        bn (ko [16] a0 (m_X7_last a0)) fun r32 =>
        if r32 < x1 then
          j31 ()
        else
          j29 1
theorem hm_X7_has : (yX7_has.cls ≠ "java/lang/invoke/MethodHandle" ∧ yX7_has.cls ≠ "java/lang/invoke/VarHandle" ∧ (parseMethodDescriptor yX7_has.desc).map (fun d => d.parameters.length) = some 1) := by decide +kernel
set_option maxHeartbeats 4000000 in
set_option maxRecDepth 100000 in
theorem L_X7_has {G : GT} (hG : GOK G) (a0 : Nat) (x1 : Int32) : Cal G yX7_has (ws_ yX7_has cX7_has 2 (Option.some Jvm.ClassFile.FieldType.boolean)) 4 100 [.ref a0, .int x1] rI (m_X7_has a0 x1) := by
  refine Cal_of hG (by decide +kernel) (Nat.le_of_ble_eq_true rfl) (lv0 := [(0, .ref a0), (1, .int x1)]) rfl (fun X σ0 => ?_)
  delta m_X7_has
  refine Ex_iload_n dX7_has_0 rfl 1 rfl ?_
  refine Ex_aload_n dX7_has_1 rfl 0 rfl ?_
  refine Ex_gR dX7_has_2 lk_X7_64 rfl (fun x26 => ?_)
  refine Ex_gI dX7_has_5 lk_X7_72 rfl (fun x27 => ?_)
  refine Ex_jn (γ := Int32) (pj := 24) (fun v28 => []) (fun v28 => [.int v28]) (fun v28 => ?_) (fun j29 hj29 => ?_)
  · refine Ex_ck (fun hz => ?_)
    exact Ex_zreturn dX7_has_24 rfl (zok_n hz)
  · refine Ex_jn (γ := Unit) (pj := 23) (fun v30 => []) (fun v30 => []) (fun v30 => ?_) (fun j31 hj31 => ?_)
    · refine Ex_iconst (v := 0) dX7_has_23 (by decide) ?_
      exact hj29 0
    · refine Ex_icmp_le (tgt := 23) dX7_has_8 (by decide) ?_ ?_
      · refine Ex_lv [] (lv' := []) rfl ?_
        exact hj31 ()
      · refine Ex_iload_n dX7_has_11 rfl 1 rfl ?_
        refine Ex_aload_n dX7_has_12 rfl 0 rfl ?_
        refine Ex_bnI (Inv_V (L_X7_last hG a0) (lw_V q2138 q2139 q2140 q55 q2141) oe_16 ⟨rfl, hm_X7_last⟩ (by decide) (by decide) dX7_has_13 rfl (Nat.le_of_ble_eq_true rfl)) (fun r32 => ?_)
        refine Ex_icmp_gt (tgt := 23) dX7_has_16 (by decide) ?_ ?_
        · refine Ex_lv [] (lv' := []) rfl ?_
          exact hj31 ()
        · refine Ex_iconst (v := 1) dX7_has_19 (by decide) ?_
          refine Ex_goto (tgt := 24) dX7_has_20 (by decide) ?_
          refine Ex_lv [] (lv' := []) rfl ?_
          exact hj29 1
-- QuorumAlmanacModel.failsEntry(II)Z
def m_X6_failsEntry (a0 : Nat) (x1 : Int32) (x2 : Int32) : Ms Int32 :=
  bn (ko [15] a0 (m_X6_failsNode a0 x1)) fun r30 =>
  jn (fun (v31 : Int32) =>
      ck (v31 = 0 ∨ v31 = 1) <|
      rt v31)
    fun j32 =>
    jn (fun (v33 : Unit) =>
        j32 1)
      fun j34 =>
      if ¬ r30 = 0 then
        j34 ()
      else
        gR [15] 128 a0 fun x35 =>
        aR 34 x35 x1 fun x36 =>
        bn (ko [16] x36 (m_X7_has x36 x2)) fun r37 =>
        jn (fun (v38 : Int32 × Nat) =>
            bn (ko [15] v38.2 (m_X6_fails v38.2 v38.1)) fun r40 =>
            if r40 = 0 then
              j32 0
            else
              j34 ())
          fun j39 =>
          if r37 = 0 then
            j39 (2, a0)
          else
            j39 (0, a0)
theorem hm_X6_failsEntry : (yX6_failsEntry.cls ≠ "java/lang/invoke/MethodHandle" ∧ yX6_failsEntry.cls ≠ "java/lang/invoke/VarHandle" ∧ (parseMethodDescriptor yX6_failsEntry.desc).map (fun d => d.parameters.length) = some 2) := by decide +kernel
set_option maxHeartbeats 4000000 in
set_option maxRecDepth 100000 in
theorem L_X6_failsEntry {G : GT} (hG : GOK G) (a0 : Nat) (x1 : Int32) (x2 : Int32) : Cal G yX6_failsEntry (ws_ yX6_failsEntry cX6_failsEntry 3 (Option.some Jvm.ClassFile.FieldType.boolean)) 5 121 [.ref a0, .int x1, .int x2] rI (m_X6_failsEntry a0 x1 x2) := by
  refine Cal_of hG (by decide +kernel) (Nat.le_of_ble_eq_true rfl) (lv0 := [(0, .ref a0), (1, .int x1), (2, .int x2)]) rfl (fun X σ0 => ?_)
  delta m_X6_failsEntry
  refine Ex_aload_n dX6_failsEntry_0 rfl 0 rfl ?_
  refine Ex_iload_n dX6_failsEntry_1 rfl 1 rfl ?_
  refine Ex_bnI (Inv_V (L_X6_failsNode hG a0 x1) (lw_V q2109 q2111 qs33 q54 q2112) oe_15 ⟨rfl, hm_X6_failsNode⟩ (by decide) (by decide) dX6_failsEntry_2 rfl (Nat.le_of_ble_eq_true rfl)) (fun r30 => ?_)
  refine Ex_jn (γ := Int32) (pj := 38) (fun v31 => []) (fun v31 => [.int v31]) (fun v31 => ?_) (fun j32 hj32 => ?_)
  · refine Ex_ck (fun hz => ?_)
    exact Ex_zreturn dX6_failsEntry_38 rfl (zok_n hz)
  · refine Ex_jn (γ := Unit) (pj := 33) (fun v33 => []) (fun v33 => []) (fun v33 => ?_) (fun j34 hj34 => ?_)
    · refine Ex_iconst (v := 1) dX6_failsEntry_33 (by decide) ?_
      refine Ex_goto (tgt := 38) dX6_failsEntry_34 (by decide) ?_
      exact hj32 1
    · refine Ex_if_ne (tgt := 33) dX6_failsEntry_5 (by decide) ?_ ?_
      · refine Ex_lv [] (lv' := []) rfl ?_
        exact hj34 ()
      · refine Ex_aload_n dX6_failsEntry_8 rfl 0 rfl ?_
        refine Ex_aload_n dX6_failsEntry_9 rfl 0 rfl ?_
        refine Ex_gR dX6_failsEntry_10 lk_X6_15 rfl (fun x35 => ?_)
        refine Ex_iload_n dX6_failsEntry_13 rfl 1 rfl ?_
        refine Ex_aR (j := 4) rfl rfl dX6_failsEntry_14 (fun x36 => ?_)
        refine Ex_iload_n dX6_failsEntry_15 rfl 2 rfl ?_
        refine Ex_bnI (Inv_V (L_X7_has hG x36 x2) (lw_V q2416 q2417 q2418 q55 q2419) oe_16 ⟨rfl, hm_X7_has⟩ (by decide) (by decide) dX6_failsEntry_16 rfl (Nat.le_of_ble_eq_true rfl)) (fun r37 => ?_)
        refine Ex_jn (γ := Int32 × Nat) (pj := 27) (fun v38 => []) (fun v38 => [.int v38.1, .ref v38.2]) (fun v38 => ?_) (fun j39 hj39 => ?_)
        · refine Ex_bnI (Inv_V (L_X6_fails hG v38.2 v38.1) (lw_V q2116 q2118 qs34 q54 q2119) oe_15 ⟨rfl, hm_X6_fails⟩ (by decide) (by decide) dX6_failsEntry_27 rfl (Nat.le_of_ble_eq_true rfl)) (fun r40 => ?_)
          refine Ex_if_eq (tgt := 37) dX6_failsEntry_30 (by decide) ?_ ?_
          · refine Ex_iconst (v := 0) dX6_failsEntry_37 (by decide) ?_
            exact hj32 0
          · exact hj34 ()
        · refine Ex_if_eq (tgt := 26) dX6_failsEntry_19 (by decide) ?_ ?_
          · refine Ex_iconst (v := 2) dX6_failsEntry_26 (by decide) ?_
            refine Ex_lv [] (lv' := []) rfl ?_
            exact hj39 (2, a0)
          · refine Ex_iconst (v := 0) dX6_failsEntry_22 (by decide) ?_
            refine Ex_goto (tgt := 27) dX6_failsEntry_23 (by decide) ?_
            refine Ex_lv [] (lv' := []) rfl ?_
            exact hj39 (0, a0)
-- QuorumAlmanacModel.entryTerm(II)I
def m_X6_entryTerm (a0 : Nat) (x1 : Int32) (x2 : Int32) : Ms Int32 :=
  bn (ko [15] a0 (m_X6_failsEntry a0 x1 x2)) fun r30 =>
  jn (fun (v31 : Int32) =>
      rt v31)
    fun j32 =>
    if r30 = 0 then
      gR [15] 128 a0 fun x33 =>
      aR 34 x33 x1 fun x34 =>
      bn (ko [16] x34 (m_X7_entry x34 x2)) fun r35 =>
      gI [20] 82 r35 fun x36 =>
      j32 x36
    else
      j32 0
theorem hm_X6_entryTerm : (yX6_entryTerm.cls ≠ "java/lang/invoke/MethodHandle" ∧ yX6_entryTerm.cls ≠ "java/lang/invoke/VarHandle" ∧ (parseMethodDescriptor yX6_entryTerm.desc).map (fun d => d.parameters.length) = some 2) := by decide +kernel
set_option maxHeartbeats 4000000 in
set_option maxRecDepth 100000 in
theorem L_X6_entryTerm {G : GT} (hG : GOK G) (a0 : Nat) (x1 : Int32) (x2 : Int32) : Cal G yX6_entryTerm (ws_ yX6_entryTerm cX6_entryTerm 3 (Option.some Jvm.ClassFile.FieldType.int)) 6 145 [.ref a0, .int x1, .int x2] rI (m_X6_entryTerm a0 x1 x2) := by
  refine Cal_of hG (by decide +kernel) (Nat.le_of_ble_eq_true rfl) (lv0 := [(0, .ref a0), (1, .int x1), (2, .int x2)]) rfl (fun X σ0 => ?_)
  delta m_X6_entryTerm
  refine Ex_aload_n dX6_entryTerm_0 rfl 0 rfl ?_
  refine Ex_iload_n dX6_entryTerm_1 rfl 1 rfl ?_
  refine Ex_iload_n dX6_entryTerm_2 rfl 2 rfl ?_
  refine Ex_bnI (Inv_V (L_X6_failsEntry hG a0 x1 x2) (lw_V q2412 q2414 qs39 q54 q2415) oe_15 ⟨rfl, hm_X6_failsEntry⟩ (by decide) (by decide) dX6_entryTerm_3 rfl (Nat.le_of_ble_eq_true rfl)) (fun r30 => ?_)
  refine Ex_jn (γ := Int32) (pj := 26) (fun v31 => []) (fun v31 => [.int v31]) (fun v31 => ?_) (fun j32 hj32 => ?_)
  · exact Ex_ireturn dX6_entryTerm_26 rfl
  · refine Ex_if_eq (tgt := 13) dX6_entryTerm_6 (by decide) ?_ ?_
    · refine Ex_aload_n dX6_entryTerm_13 rfl 0 rfl ?_
      refine Ex_gR dX6_entryTerm_14 lk_X6_15 rfl (fun x33 => ?_)
      refine Ex_iload_n dX6_entryTerm_17 rfl 1 rfl ?_
      refine Ex_aR (j := 4) rfl rfl dX6_entryTerm_18 (fun x34 => ?_)
      refine Ex_iload_n dX6_entryTerm_19 rfl 2 rfl ?_
      refine Ex_bnR (Inv_V (L_X7_entry hG x34 x2) (lw_V q2420 q2151 q2152 q55 q2153) oe_16 ⟨rfl, hm_X7_entry⟩ (by decide) (by decide) dX6_entryTerm_20 rfl (Nat.le_of_ble_eq_true rfl)) (fun r35 => ?_)
      refine Ex_gI dX6_entryTerm_23 lk_X6_153 rfl (fun x36 => ?_)
      refine Ex_lv [] (lv' := []) rfl ?_
      exact hj32 x36
    · refine Ex_iconst (v := 0) dX6_entryTerm_9 (by decide) ?_
      refine Ex_goto (tgt := 26) dX6_entryTerm_10 (by decide) ?_
      refine Ex_lv [] (lv' := []) rfl ?_
      exact hj32 0
-- QuorumAlmanacModel.entryKind(II)C
def m_X6_entryKind (a0 : Nat) (x1 : Int32) (x2 : Int32) : Ms Int32 :=
  bn (ko [15] a0 (m_X6_failsEntry a0 x1 x2)) fun r30 =>
  jn (fun (v31 : Int32) =>
      ck (0 ≤ Int32.toInt v31 ∧ Int32.toInt v31 < 65536) <|
      rt v31)
    fun j32 =>
    if r30 = 0 then
      gR [15] 128 a0 fun x33 =>
      aR 34 x33 x1 fun x34 =>
      bn (ko [16] x34 (m_X7_entry x34 x2)) fun r35 =>
      gI [20] 83 r35 fun x36 =>
      j32 x36
    else
      j32 0
theorem hm_X6_entryKind : (yX6_entryKind.cls ≠ "java/lang/invoke/MethodHandle" ∧ yX6_entryKind.cls ≠ "java/lang/invoke/VarHandle" ∧ (parseMethodDescriptor yX6_entryKind.desc).map (fun d => d.parameters.length) = some 2) := by decide +kernel
set_option maxHeartbeats 4000000 in
set_option maxRecDepth 100000 in
theorem L_X6_entryKind {G : GT} (hG : GOK G) (a0 : Nat) (x1 : Int32) (x2 : Int32) : Cal G yX6_entryKind (ws_ yX6_entryKind cX6_entryKind 3 (Option.some Jvm.ClassFile.FieldType.char)) 6 145 [.ref a0, .int x1, .int x2] rI (m_X6_entryKind a0 x1 x2) := by
  refine Cal_of hG (by decide +kernel) (Nat.le_of_ble_eq_true rfl) (lv0 := [(0, .ref a0), (1, .int x1), (2, .int x2)]) rfl (fun X σ0 => ?_)
  delta m_X6_entryKind
  refine Ex_aload_n dX6_entryKind_0 rfl 0 rfl ?_
  refine Ex_iload_n dX6_entryKind_1 rfl 1 rfl ?_
  refine Ex_iload_n dX6_entryKind_2 rfl 2 rfl ?_
  refine Ex_bnI (Inv_V (L_X6_failsEntry hG a0 x1 x2) (lw_V q2412 q2414 qs39 q54 q2415) oe_15 ⟨rfl, hm_X6_failsEntry⟩ (by decide) (by decide) dX6_entryKind_3 rfl (Nat.le_of_ble_eq_true rfl)) (fun r30 => ?_)
  refine Ex_jn (γ := Int32) (pj := 26) (fun v31 => []) (fun v31 => [.int v31]) (fun v31 => ?_) (fun j32 hj32 => ?_)
  · refine Ex_ck (fun hz => ?_)
    exact Ex_zreturn dX6_entryKind_26 rfl (cok_n hz)
  · refine Ex_if_eq (tgt := 13) dX6_entryKind_6 (by decide) ?_ ?_
    · refine Ex_aload_n dX6_entryKind_13 rfl 0 rfl ?_
      refine Ex_gR dX6_entryKind_14 lk_X6_15 rfl (fun x33 => ?_)
      refine Ex_iload_n dX6_entryKind_17 rfl 1 rfl ?_
      refine Ex_aR (j := 4) rfl rfl dX6_entryKind_18 (fun x34 => ?_)
      refine Ex_iload_n dX6_entryKind_19 rfl 2 rfl ?_
      refine Ex_bnR (Inv_V (L_X7_entry hG x34 x2) (lw_V q2420 q2151 q2152 q55 q2153) oe_16 ⟨rfl, hm_X7_entry⟩ (by decide) (by decide) dX6_entryKind_20 rfl (Nat.le_of_ble_eq_true rfl)) (fun r35 => ?_)
      refine Ex_gI dX6_entryKind_23 lk_X6_156 rfl (fun x36 => ?_)
      refine Ex_lv [] (lv' := []) rfl ?_
      exact hj32 x36
    · refine Ex_iconst (v := 0) dX6_entryKind_9 (by decide) ?_
      refine Ex_goto (tgt := 26) dX6_entryKind_10 (by decide) ?_
      refine Ex_lv [] (lv' := []) rfl ?_
      exact hj32 0
-- QuorumAlmanacModel.waiting()I
def m_X6_waiting (a0 : Nat) : Ms Int32 :=
  pV [15] 50 a0 (.int 0) <|
  gR [15] 129 a0 fun x24 =>
  bn (ko [22] x24 (m_J2_size x24)) fun r25 =>
  rt r25
theorem hm_X6_waiting : (yX6_waiting.cls ≠ "java/lang/invoke/MethodHandle" ∧ yX6_waiting.cls ≠ "java/lang/invoke/VarHandle" ∧ (parseMethodDescriptor yX6_waiting.desc).map (fun d => d.parameters.length) = some 0) := by decide +kernel
set_option maxHeartbeats 4000000 in
set_option maxRecDepth 100000 in
theorem L_X6_waiting {G : GT} (hG : GOK G) (a0 : Nat) : Cal G yX6_waiting (ws_ yX6_waiting cX6_waiting 1 (Option.some Jvm.ClassFile.FieldType.int)) 3 80 [.ref a0] rI (m_X6_waiting a0) := by
  refine Cal_of hG (by decide +kernel) (Nat.le_of_ble_eq_true rfl) (lv0 := [(0, .ref a0)]) rfl (fun X σ0 => ?_)
  delta m_X6_waiting
  refine Ex_aload_n dX6_waiting_0 rfl 0 rfl ?_
  refine Ex_iconst (v := 0) dX6_waiting_1 (by decide) ?_
  refine Ex_pV dX6_waiting_2 lk_X6_32 rfl rfl rfl rfl ?_
  refine Ex_aload_n dX6_waiting_5 rfl 0 rfl ?_
  refine Ex_gR dX6_waiting_6 lk_X6_22 rfl (fun x24 => ?_)
  refine Ex_bnI (Inv_V (L_J2_size hG x24) (lw_V q2229 q112 q113 q48 q114) oe_22 ⟨rfl, hm_J2_size⟩ (by decide) (by decide) dX6_waiting_9 rfl (Nat.le_of_ble_eq_true rfl)) (fun r25 => ?_)
  exact Ex_ireturn dX6_waiting_12 rfl
-- QuorumAlmanacModel.earliest()I
def m_X6_earliest (a0 : Nat) : Ms Int32 :=
  gR [15] 129 a0 fun x32 =>
  bn (ko [22] x32 (m_J2_isEmpty x32)) fun r33 =>
  jn (fun (v34 : Int32 × Nat) =>
      bn (ko [15] v34.2 (m_X6_fails v34.2 v34.1)) fun r36 =>
      jn (fun (v37 : Int32) =>
          rt v37)
        fun j38 =>
        if r36 = 0 then
          gR [15] 129 a0 fun x39 =>
          bn (ko [22] x39 (m_J2_get x39 0)) fun r40 =>
          ko [19] r40 <|
          gI [19] 72 r40 fun x41 =>
          j38 x41
        else
          j38 0)
    fun j35 =>
    if r33 = 0 then
      j35 (0, a0)
    else
      j35 (1, a0)
theorem hm_X6_earliest : (yX6_earliest.cls ≠ "java/lang/invoke/MethodHandle" ∧ yX6_earliest.cls ≠ "java/lang/invoke/VarHandle" ∧ (parseMethodDescriptor yX6_earliest.desc).map (fun d => d.parameters.length) = some 0) := by decide +kernel
set_option maxHeartbeats 4000000 in
set_option maxRecDepth 100000 in
theorem L_X6_earliest {G : GT} (hG : GOK G) (a0 : Nat) : Cal G yX6_earliest (ws_ yX6_earliest cX6_earliest 1 (Option.some Jvm.ClassFile.FieldType.int)) 5 124 [.ref a0] rI (m_X6_earliest a0) := by
  refine Cal_of hG (by decide +kernel) (Nat.le_of_ble_eq_true rfl) (lv0 := [(0, .ref a0)]) rfl (fun X σ0 => ?_)
  delta m_X6_earliest
  refine Ex_aload_n dX6_earliest_0 rfl 0 rfl ?_
  refine Ex_aload_n dX6_earliest_1 rfl 0 rfl ?_
  refine Ex_gR dX6_earliest_2 lk_X6_22 rfl (fun x32 => ?_)
  refine Ex_bnI (Inv_V (L_J2_isEmpty hG x32) (lw_V q2433 q1491 q1492 q48 q1493) oe_22 ⟨rfl, hm_J2_isEmpty⟩ (by decide) (by decide) dX6_earliest_5 rfl (Nat.le_of_ble_eq_true rfl)) (fun r33 => ?_)
  refine Ex_jn (γ := Int32 × Nat) (pj := 16) (fun v34 => [(0, .ref a0)]) (fun v34 => [.int v34.1, .ref v34.2]) (fun v34 => ?_) (fun j35 hj35 => ?_)
  · refine Ex_bnI (Inv_V (L_X6_fails hG v34.2 v34.1) (lw_V q2116 q2118 qs34 q54 q2119) oe_15 ⟨rfl, hm_X6_fails⟩ (by decide) (by decide) dX6_earliest_16 rfl (Nat.le_of_ble_eq_true rfl)) (fun r36 => ?_)
    refine Ex_jn (γ := Int32) (pj := 40) (fun v37 => []) (fun v37 => [.int v37]) (fun v37 => ?_) (fun j38 hj38 => ?_)
    · exact Ex_ireturn dX6_earliest_40 rfl
    · refine Ex_if_eq (tgt := 26) dX6_earliest_19 (by decide) ?_ ?_
      · refine Ex_aload_n dX6_earliest_26 rfl 0 rfl ?_
        refine Ex_gR dX6_earliest_27 lk_X6_22 rfl (fun x39 => ?_)
        refine Ex_iconst (v := 0) dX6_earliest_30 (by decide) ?_
        refine Ex_bnR (Inv_V (L_J2_get hG x39 0) (lw_V q2434 q415 q416 q48 q417) oe_22 ⟨rfl, hm_J2_get⟩ (by decide) (by decide) dX6_earliest_31 rfl (Nat.le_of_ble_eq_true rfl)) (fun r40 => ?_)
        refine Ex_ko dX6_earliest_34 q2167 oc_QuorumAlmanacModel_Message_19 ?_
        refine Ex_gI dX6_earliest_37 lk_X6_166 rfl (fun x41 => ?_)
        refine Ex_lv [] (lv' := []) rfl ?_
        exact hj38 x41
      · refine Ex_iconst (v := 0) dX6_earliest_22 (by decide) ?_
        refine Ex_goto (tgt := 40) dX6_earliest_23 (by decide) ?_
        refine Ex_lv [] (lv' := []) rfl ?_
        exact hj38 0
  · refine Ex_if_eq (tgt := 15) dX6_earliest_8 (by decide) ?_ ?_
    · refine Ex_iconst (v := 0) dX6_earliest_15 (by decide) ?_
      exact hj35 (0, a0)
    · refine Ex_iconst (v := 1) dX6_earliest_11 (by decide) ?_
      refine Ex_goto (tgt := 16) dX6_earliest_12 (by decide) ?_
      exact hj35 (1, a0)
-- QuorumAlmanacModel.message(I)LQuorumAlmanacModel$Message;
def m_X6_message (a0 : Nat) (x1 : Int32) : Ms (Option Nat) :=
  gR [15] 129 a0 fun x35 =>
  bn (ko [22] x35 (m_J2_iterator x35)) fun r36 =>
  lp (fun j38 (v37 : Option Nat) =>
      bn (ko [23] r36 (m_J17_hasNext r36)) fun r39 =>
      if r39 = 0 then
        jn (fun (v40 : Int32 × Nat) =>
            bn (ko [15] v40.2 (m_X6_fails v40.2 v40.1)) fun r42 =>
            jn (fun (v43 : Option Nat) =>
                rt v43)
              fun j44 =>
              if r42 = 0 then
                j44 v37
              else
                j44 none)
          fun j41 =>
          no v37 (
            j41 (1, a0)) fun a45 =>
            j41 (0, a0)
      else
        bn (ko [23] r36 (m_J17_next r36)) fun r47 =>
        ko [19] r47 <|
        gI [19] 72 r47 fun x48 =>
        jn (fun (v49 : Option Nat) =>
            j38 v49)
          fun j50 =>
          if ¬ x48 = x1 then
            j50 v37
          else
            j50 (some r47))
    none
theorem hm_X6_message : (yX6_message.cls ≠ "java/lang/invoke/MethodHandle" ∧ yX6_message.cls ≠ "java/lang/invoke/VarHandle" ∧ (parseMethodDescriptor yX6_message.desc).map (fun d => d.parameters.length) = some 1) := by decide +kernel
set_option maxHeartbeats 4000000 in
set_option maxRecDepth 100000 in
theorem L_X6_message {G : GT} (hG : GOK G) (a0 : Nat) (x1 : Int32) : Cal G yX6_message (ws_ yX6_message cX6_message 5 (Option.some (Jvm.ClassFile.FieldType.object "QuorumAlmanacModel$Message"))) 4 102 [.ref a0, .int x1] rO (m_X6_message a0 x1) := by
  refine Cal_of hG (by decide +kernel) (Nat.le_of_ble_eq_true rfl) (lv0 := [(0, .ref a0), (1, .int x1)]) rfl (fun X σ0 => ?_)
  delta m_X6_message
  refine Ex_null dX6_message_0 ?_
  refine Ex_astore_nN (lv' := [(0, .ref a0), (1, .int x1), (2, .null)]) dX6_message_1 rfl (by decide) [1, 2, 0] rfl ?_
  refine Ex_aload_n dX6_message_2 rfl 0 rfl ?_
  refine Ex_gR dX6_message_3 lk_X6_22 rfl (fun x35 => ?_)
  refine Ex_bnR (Inv_V (L_J2_iterator hG x35) (lw_V q2443 q1149 q1150 q48 q1151) oe_22 ⟨rfl, hm_J2_iterator⟩ (by decide) (by decide) dX6_message_6 rfl (Nat.le_of_ble_eq_true rfl)) (fun r36 => ?_)
  refine Ex_astore_n (lv' := [(0, .ref a0), (1, .int x1), (2, .null), (3, .ref r36)]) dX6_message_9 rfl (by decide) [1, 2, 3, 0] rfl ?_
  refine Ex_lp (γ := Option Nat) (pj := 10) (fun v37 => [(0, .ref a0), (1, .int x1), (2, va_rf v37), (3, .ref r36)]) (fun v37 => []) (fun j38 hj38 v37 => ?_) none rfl rfl
  refine Ex_aload_n dX6_message_10 rfl 3 rfl ?_
  refine Ex_bnI (Inv_F (L_J17_hasNext hG r36) (lw_F q2445 q1176 q1178 q77 q1180) q1174 q1173 q1179 q1177 q1175 oe_23 hx_Iterator_hasNext (by decide) (by decide) dX6_message_11 rfl (Nat.le_of_ble_eq_true rfl)) (fun r39 => ?_)
  refine Ex_if_eq (tgt := 49) dX6_message_16 (by decide) ?_ ?_
  · refine Ex_aload_n dX6_message_49 rfl 0 rfl ?_
    refine Ex_aload_nO dX6_message_50 rfl 2 rfl ?_
    refine Ex_jn (γ := Int32 × Nat) (pj := 59) (fun v40 => [(2, va_rf v37)]) (fun v40 => [.int v40.1, .ref v40.2]) (fun v40 => ?_) (fun j41 hj41 => ?_)
    · refine Ex_bnI (Inv_V (L_X6_fails hG v40.2 v40.1) (lw_V q2116 q2118 qs34 q54 q2119) oe_15 ⟨rfl, hm_X6_fails⟩ (by decide) (by decide) dX6_message_59 rfl (Nat.le_of_ble_eq_true rfl)) (fun r42 => ?_)
      refine Ex_jn (γ := Option Nat) (pj := 70) (fun v43 => []) (fun v43 => [va_rf v43]) (fun v43 => ?_) (fun j44 hj44 => ?_)
      · exact Ex_oreturn dX6_message_70 rfl (Or.inl ⟨_, rfl⟩)
      · refine Ex_if_eq (tgt := 69) dX6_message_62 (by decide) ?_ ?_
        · refine Ex_aload_nO dX6_message_69 rfl 0 rfl ?_
          refine Ex_lv [] (lv' := []) rfl ?_
          exact hj44 v37
        · refine Ex_null dX6_message_65 ?_
          refine Ex_goto (tgt := 70) dX6_message_66 (by decide) ?_
          refine Ex_lv [] (lv' := []) rfl ?_
          exact hj44 none
    · rcases v37 with _ | a45
      · refine Ex_no_ifnonnullN dX6_message_51 ?_
        refine Ex_iconst (v := 1) dX6_message_54 (by decide) ?_
        refine Ex_goto (tgt := 59) dX6_message_55 (by decide) ?_
        refine Ex_lv [2] (lv' := [(2, .null)]) rfl ?_
        exact hj41 (1, a0)
      · refine Ex_no_ifnonnullR (tgt := 58) dX6_message_51 (by decide) ?_
        refine Ex_iconst (v := 0) dX6_message_58 (by decide) ?_
        refine Ex_lv [2] (lv' := [(2, .ref a45)]) rfl ?_
        exact hj41 (0, a0)
  · refine Ex_aload_n dX6_message_19 rfl 3 rfl ?_
    refine Ex_bnR (Inv_F (L_J17_next hG r36) (lw_F q2447 q1185 q1187 q77 q1189) q1184 q1183 q1188 q1186 q1175 oe_23 hx_Iterator_next (by decide) (by decide) dX6_message_20 rfl (Nat.le_of_ble_eq_true rfl)) (fun r47 => ?_)
    refine Ex_ko dX6_message_25 q2167 oc_QuorumAlmanacModel_Message_19 ?_
    refine Ex_astore (lv' := [(0, .ref a0), (1, .int x1), (2, va_rf v37), (3, .ref r36), (4, .ref r47)]) dX6_message_28 (by decide) [1, 2, 3, 4, 0] rfl ?_
    refine Ex_aload dX6_message_30 4 rfl ?_
    refine Ex_gI dX6_message_32 lk_X6_166 rfl (fun x48 => ?_)
    refine Ex_iload_n dX6_message_35 rfl 1 rfl ?_
    refine Ex_jn (γ := Option Nat) (pj := 45) (fun v49 => [(0, .ref a0), (1, .int x1), (3, .ref r36)]) (fun v49 => [va_rf v49]) (fun v49 => ?_) (fun j50 hj50 => ?_)
    · refine Ex_astore_nO (lv' := [(0, .ref a0), (1, .int x1), (2, va_rf v49), (3, .ref r36)]) dX6_message_45 rfl (by decide) [1, 2, 0, 3] rfl ?_
      refine Ex_goto (tgt := 10) dX6_message_46 (by decide) ?_
      exact hj38 v49
    · refine Ex_icmp_ne (tgt := 44) dX6_message_36 (by decide) ?_ ?_
      · refine Ex_aload_nO dX6_message_44 rfl 2 rfl ?_
        refine Ex_lv [0, 1, 3] (lv' := [(0, .ref a0), (1, .int x1), (3, .ref r36)]) rfl ?_
        exact hj50 v37
      · refine Ex_aload dX6_message_39 4 rfl ?_
        refine Ex_goto (tgt := 45) dX6_message_41 (by decide) ?_
        refine Ex_lv [0, 1, 3] (lv' := [(0, .ref a0), (1, .int x1), (3, .ref r36)]) rfl ?_
        exact hj50 (some r47)
-- QuorumAlmanacModel.kindOf(I)C
def m_X6_kindOf (a0 : Nat) (x1 : Int32) : Ms Int32 :=
  bn (ko [15] a0 (m_X6_message a0 x1)) fun r24 =>
  jn (fun (v25 : Int32) =>
      ck (0 ≤ Int32.toInt v25 ∧ Int32.toInt v25 < 65536) <|
      rt v25)
    fun j26 =>
    no r24 (
      j26 0) fun a27 =>
      gI [19] 73 a27 fun x29 =>
      j26 x29
theorem hm_X6_kindOf : (yX6_kindOf.cls ≠ "java/lang/invoke/MethodHandle" ∧ yX6_kindOf.cls ≠ "java/lang/invoke/VarHandle" ∧ (parseMethodDescriptor yX6_kindOf.desc).map (fun d => d.parameters.length) = some 1) := by decide +kernel
set_option maxHeartbeats 4000000 in
set_option maxRecDepth 100000 in
theorem L_X6_kindOf {G : GT} (hG : GOK G) (a0 : Nat) (x1 : Int32) : Cal G yX6_kindOf (ws_ yX6_kindOf cX6_kindOf 3 (Option.some Jvm.ClassFile.FieldType.char)) 5 126 [.ref a0, .int x1] rI (m_X6_kindOf a0 x1) := by
  refine Cal_of hG (by decide +kernel) (Nat.le_of_ble_eq_true rfl) (lv0 := [(0, .ref a0), (1, .int x1)]) rfl (fun X σ0 => ?_)
  delta m_X6_kindOf
  refine Ex_aload_n dX6_kindOf_0 rfl 0 rfl ?_
  refine Ex_iload_n dX6_kindOf_1 rfl 1 rfl ?_
  refine Ex_bnO (Inv_V (L_X6_message hG a0 x1) (lw_V q2439 q2441 qs40 q54 q2442) oe_15 ⟨rfl, hm_X6_message⟩ (by decide) (by decide) dX6_kindOf_2 rfl (Nat.le_of_ble_eq_true rfl)) (fun r24 => ?_)
  refine Ex_astore_nO (lv' := [(0, .ref a0), (1, .int x1), (2, va_rf r24)]) dX6_kindOf_5 rfl (by decide) [1, 2, 0] rfl ?_
  refine Ex_aload_nO dX6_kindOf_6 rfl 2 rfl ?_
  refine Ex_jn (γ := Int32) (pj := 18) (fun v25 => []) (fun v25 => [.int v25]) (fun v25 => ?_) (fun j26 hj26 => ?_)
  · refine Ex_ck (fun hz => ?_)
    exact Ex_zreturn dX6_kindOf_18 rfl (cok_n hz)
  · rcases r24 with _ | a27
    · refine Ex_no_ifnonnullN dX6_kindOf_7 ?_
      refine Ex_iconst (v := 0) dX6_kindOf_10 (by decide) ?_
      refine Ex_goto (tgt := 18) dX6_kindOf_11 (by decide) ?_
      refine Ex_lv [] (lv' := []) rfl ?_
      exact hj26 0
    · refine Ex_no_ifnonnullR (tgt := 14) dX6_kindOf_7 (by decide) ?_
      refine Ex_aload_n dX6_kindOf_14 rfl 2 rfl ?_
      refine Ex_gI dX6_kindOf_15 lk_X6_186 rfl (fun x29 => ?_)
      refine Ex_lv [] (lv' := []) rfl ?_
      exact hj26 x29
-- QuorumAlmanacModel.between(I)I
def m_X6_between (a0 : Nat) (x1 : Int32) : Ms Int32 :=
  bn (ko [15] a0 (m_X6_message a0 x1)) fun r26 =>
  jn (fun (v27 : Int32) =>
      rt v27)
    fun j28 =>
    no r26 (
      j28 0) fun a29 =>
      gI [19] 74 a29 fun x31 =>
      gI [19] 75 a29 fun x32 =>
      j28 ((10 * x31) + x32)
theorem hm_X6_between : (yX6_between.cls ≠ "java/lang/invoke/MethodHandle" ∧ yX6_between.cls ≠ "java/lang/invoke/VarHandle" ∧ (parseMethodDescriptor yX6_between.desc).map (fun d => d.parameters.length) = some 1) := by decide +kernel
set_option maxHeartbeats 4000000 in
set_option maxRecDepth 100000 in
theorem L_X6_between {G : GT} (hG : GOK G) (a0 : Nat) (x1 : Int32) : Cal G yX6_between (ws_ yX6_between cX6_between 3 (Option.some Jvm.ClassFile.FieldType.int)) 5 126 [.ref a0, .int x1] rI (m_X6_between a0 x1) := by
  refine Cal_of hG (by decide +kernel) (Nat.le_of_ble_eq_true rfl) (lv0 := [(0, .ref a0), (1, .int x1)]) rfl (fun X σ0 => ?_)
  delta m_X6_between
  refine Ex_aload_n dX6_between_0 rfl 0 rfl ?_
  refine Ex_iload_n dX6_between_1 rfl 1 rfl ?_
  refine Ex_bnO (Inv_V (L_X6_message hG a0 x1) (lw_V q2439 q2441 qs40 q54 q2442) oe_15 ⟨rfl, hm_X6_message⟩ (by decide) (by decide) dX6_between_2 rfl (Nat.le_of_ble_eq_true rfl)) (fun r26 => ?_)
  refine Ex_astore_nO (lv' := [(0, .ref a0), (1, .int x1), (2, va_rf r26)]) dX6_between_5 rfl (by decide) [1, 2, 0] rfl ?_
  refine Ex_aload_nO dX6_between_6 rfl 2 rfl ?_
  refine Ex_jn (γ := Int32) (pj := 26) (fun v27 => []) (fun v27 => [.int v27]) (fun v27 => ?_) (fun j28 hj28 => ?_)
  · exact Ex_ireturn dX6_between_26 rfl
  · rcases r26 with _ | a29
    · refine Ex_no_ifnonnullN dX6_between_7 ?_
      refine Ex_iconst (v := 0) dX6_between_10 (by decide) ?_
      refine Ex_goto (tgt := 26) dX6_between_11 (by decide) ?_
      refine Ex_lv [] (lv' := []) rfl ?_
      exact hj28 0
    · refine Ex_no_ifnonnullR (tgt := 14) dX6_between_7 (by decide) ?_
      refine Ex_bipush (v := 10) dX6_between_14 (by decide) ?_
      refine Ex_aload_n dX6_between_16 rfl 2 rfl ?_
      refine Ex_gI dX6_between_17 lk_X6_187 rfl (fun x31 => ?_)
      refine Ex_imul dX6_between_20 ?_
      refine Ex_aload_n dX6_between_21 rfl 2 rfl ?_
      refine Ex_gI dX6_between_22 lk_X6_190 rfl (fun x32 => ?_)
      refine Ex_iadd dX6_between_25 ?_
      refine Ex_lv [] (lv' := []) rfl ?_
      exact hj28 ((10 * x31) + x32)
-- QuorumAlmanacModel$Node.follow(I)V
def m_X7_follow (a0 : Nat) (x1 : Int32) : Ms Unit :=
  gI [16] 56 a0 fun x24 =>
  jn (fun (v25 : Unit) =>
      gI [16] 58 a0 fun x27 =>
      jn (fun (v28 : Unit) =>
          rt ())
        fun j29 =>
        if x27 = 102 then
          j29 ()
        else
          pV [16] 58 a0 (.int 102) <|
          bn (ko [16] a0 (m_X7_losesReads a0)) fun _ =>
          j29 ())
    fun j26 =>
    if x1 ≤ x24 then
      j26 ()
    else
      pV [16] 56 a0 (.int x1) <|
      pV [16] 57 a0 (.int (-1)) <|
      pV [16] 65 a0 (.int 0) <|
      pV [16] 64 a0 (.int (-1)) <|
      pV [16] 66 a0 (.int 0) <|
      j26 ()
theorem hm_X7_follow : (yX7_follow.cls ≠ "java/lang/invoke/MethodHandle" ∧ yX7_follow.cls ≠ "java/lang/invoke/VarHandle" ∧ (parseMethodDescriptor yX7_follow.desc).map (fun d => d.parameters.length) = some 1) := by decide +kernel
set_option maxHeartbeats 4000000 in
set_option maxRecDepth 100000 in
theorem L_X7_follow {G : GT} (hG : GOK G) (a0 : Nat) (x1 : Int32) : Cal G yX7_follow (ws_ yX7_follow cX7_follow 2 (Option.none : Option Jvm.ClassFile.FieldType)) 5 124 [.ref a0, .int x1] rU (m_X7_follow a0 x1) := by
  refine Cal_of hG (by decide +kernel) (Nat.le_of_ble_eq_true rfl) (lv0 := [(0, .ref a0), (1, .int x1)]) rfl (fun X σ0 => ?_)
  delta m_X7_follow
  refine Ex_iload_n dX7_follow_0 rfl 1 rfl ?_
  refine Ex_aload_n dX7_follow_1 rfl 0 rfl ?_
  refine Ex_gI dX7_follow_2 lk_X7_126 rfl (fun x24 => ?_)
  refine Ex_jn (γ := Unit) (pj := 33) (fun v25 => [(0, .ref a0)]) (fun v25 => []) (fun v25 => ?_) (fun j26 hj26 => ?_)
  · refine Ex_aload_n dX7_follow_33 rfl 0 rfl ?_
    refine Ex_gI dX7_follow_34 lk_X7_19 rfl (fun x27 => ?_)
    refine Ex_bipush (v := 102) dX7_follow_37 (by decide) ?_
    refine Ex_jn (γ := Unit) (pj := 52) (fun v28 => []) (fun v28 => []) (fun v28 => ?_) (fun j29 hj29 => ?_)
    · exact Ex_vreturn dX7_follow_52 rfl
    · refine Ex_icmp_eq (tgt := 52) dX7_follow_39 (by decide) ?_ ?_
      · refine Ex_lv [] (lv' := []) rfl ?_
        exact hj29 ()
      · refine Ex_aload_n dX7_follow_42 rfl 0 rfl ?_
        refine Ex_bipush (v := 102) dX7_follow_43 (by decide) ?_
        refine Ex_pV dX7_follow_45 lk_X7_19 rfl rfl rfl rfl ?_
        refine Ex_aload_n dX7_follow_48 rfl 0 rfl ?_
        refine Ex_bnU (Inv_V (L_X7_losesReads hG a0) (lw_V q2315 q2316 q2317 q55 q2318) oe_16 ⟨rfl, hm_X7_losesReads⟩ (by decide) (by decide) dX7_follow_49 rfl (Nat.le_of_ble_eq_true rfl)) (fun _ => ?_)
        refine Ex_lv [] (lv' := []) rfl ?_
        exact hj29 ()
  · refine Ex_icmp_le (tgt := 33) dX7_follow_5 (by decide) ?_ ?_
    · refine Ex_lv [0] (lv' := [(0, .ref a0)]) rfl ?_
      exact hj26 ()
    · refine Ex_aload_n dX7_follow_8 rfl 0 rfl ?_
      refine Ex_iload_n dX7_follow_9 rfl 1 rfl ?_
      refine Ex_pV dX7_follow_10 lk_X7_126 rfl rfl rfl rfl ?_
      refine Ex_aload_n dX7_follow_13 rfl 0 rfl ?_
      refine Ex_iconst (v := (-1)) dX7_follow_14 (by decide) ?_
      refine Ex_pV dX7_follow_15 lk_X7_15 rfl rfl rfl rfl ?_
      refine Ex_aload_n dX7_follow_18 rfl 0 rfl ?_
      refine Ex_iconst (v := 0) dX7_follow_19 (by decide) ?_
      refine Ex_pV dX7_follow_20 lk_X7_127 rfl rfl rfl rfl ?_
      refine Ex_aload_n dX7_follow_23 rfl 0 rfl ?_
      refine Ex_iconst (v := (-1)) dX7_follow_24 (by decide) ?_
      refine Ex_pV dX7_follow_25 lk_X7_37 rfl rfl rfl rfl ?_
      refine Ex_aload_n dX7_follow_28 rfl 0 rfl ?_
      refine Ex_iconst (v := 0) dX7_follow_29 (by decide) ?_
      refine Ex_pV dX7_follow_30 lk_X7_130 rfl rfl rfl rfl ?_
      refine Ex_lv [0] (lv' := [(0, .ref a0)]) rfl ?_
      exact hj26 ()
-- QuorumAlmanacModel$Node.getsSnapshot(LQuorumAlmanacModel$Snapshot;)V
def m_X7_getsSnapshot (a0 : Nat) (a1 : Nat) : Ms Unit :=
  gI [17] 68 a1 fun x38 =>
  gI [16] 61 a0 fun x39 =>
  jn (fun (v40 : Unit) =>
      gI [16] 65 a0 fun x42 =>
      gI [17] 68 a1 fun x43 =>
      pV [16] 65 a0 (.int (iMax x42 x43)) <|
      rt ())
    fun j41 =>
    if x38 ≤ x39 then
      j41 ()
    else
      pV [16] 132 a0 (.ref a1) <|
      nO 22 3 dfl fun a44 =>
      bn (m_J2_init a44) fun _ =>
      pV [16] 133 a0 (.ref a44) <|
      gI [17] 68 a1 fun x45 =>
      pV [16] 60 a0 (.int x45) <|
      gI [17] 68 a1 fun x46 =>
      pV [16] 61 a0 (.int x46) <|
      gR [17] 140 a1 fun x47 =>
      bn (ko [18] x47 (m_X9_copy x47)) fun r48 =>
      pV [16] 134 a0 (.ref r48) <|
      j41 ()
theorem hm_X7_getsSnapshot : (yX7_getsSnapshot.cls ≠ "java/lang/invoke/MethodHandle" ∧ yX7_getsSnapshot.cls ≠ "java/lang/invoke/VarHandle" ∧ (parseMethodDescriptor yX7_getsSnapshot.desc).map (fun d => d.parameters.length) = some 1) := by decide +kernel
set_option maxHeartbeats 4000000 in
set_option maxRecDepth 100000 in
theorem L_X7_getsSnapshot {G : GT} (hG : GOK G) (a0 : Nat) (a1 : Nat) : Cal G yX7_getsSnapshot (ws_ yX7_getsSnapshot cX7_getsSnapshot 2 (Option.none : Option Jvm.ClassFile.FieldType)) 5 120 [.ref a0, .ref a1] rU (m_X7_getsSnapshot a0 a1) := by
  refine Cal_of hG (by decide +kernel) (Nat.le_of_ble_eq_true rfl) (lv0 := [(0, .ref a0), (1, .ref a1)]) rfl (fun X σ0 => ?_)
  delta m_X7_getsSnapshot
  refine Ex_aload_n dX7_getsSnapshot_0 rfl 1 rfl ?_
  refine Ex_gI dX7_getsSnapshot_1 lk_X7_72 rfl (fun x38 => ?_)
  refine Ex_aload_n dX7_getsSnapshot_4 rfl 0 rfl ?_
  refine Ex_gI dX7_getsSnapshot_5 lk_X7_220 rfl (fun x39 => ?_)
  refine Ex_jn (γ := Unit) (pj := 54) (fun v40 => [(0, .ref a0), (1, .ref a1)]) (fun v40 => []) (fun v40 => ?_) (fun j41 hj41 => ?_)
  · refine Ex_aload_n dX7_getsSnapshot_54 rfl 0 rfl ?_
    refine Ex_aload_n dX7_getsSnapshot_55 rfl 0 rfl ?_
    refine Ex_gI dX7_getsSnapshot_56 lk_X7_127 rfl (fun x42 => ?_)
    refine Ex_aload_n dX7_getsSnapshot_59 rfl 1 rfl ?_
    refine Ex_gI dX7_getsSnapshot_60 lk_X7_72 rfl (fun x43 => ?_)
    refine Ex_mmax dX7_getsSnapshot_63 q2314 q152 q49 q153 (by decide) (Nat.le_of_ble_eq_true rfl) ?_
    refine Ex_pV dX7_getsSnapshot_66 lk_X7_127 rfl rfl rfl rfl ?_
    exact Ex_vreturn dX7_getsSnapshot_69 rfl
  · refine Ex_icmp_le (tgt := 54) dX7_getsSnapshot_8 (by decide) ?_ ?_
    · exact hj41 ()
    · refine Ex_aload_n dX7_getsSnapshot_11 rfl 0 rfl ?_
      refine Ex_aload_n dX7_getsSnapshot_12 rfl 1 rfl ?_
      refine Ex_pV dX7_getsSnapshot_13 lk_X7_64 rfl rfl rfl rfl ?_
      refine Ex_aload_n dX7_getsSnapshot_16 rfl 0 rfl ?_
      refine Ex_nO (ci := 21) (q := qcl 21) dX7_getsSnapshot_17 rfl q1945 q120 q48 (fun a44 => ?_)
      refine Ex_dup rfl dX7_getsSnapshot_20 ?_
      refine Ex_bnU (Inv_I (L_J2_init hG a44) q48 q1946 q122 q123 rfl hm_J2_init (by decide) (by decide) dX7_getsSnapshot_21 rfl (Nat.le_of_ble_eq_true rfl)) (fun _ => ?_)
      refine Ex_pV dX7_getsSnapshot_24 lk_X7_30 rfl rfl rfl rfl ?_
      refine Ex_aload_n dX7_getsSnapshot_27 rfl 0 rfl ?_
      refine Ex_aload_n dX7_getsSnapshot_28 rfl 1 rfl ?_
      refine Ex_gI dX7_getsSnapshot_29 lk_X7_72 rfl (fun x45 => ?_)
      refine Ex_pV dX7_getsSnapshot_32 lk_X7_243 rfl rfl rfl rfl ?_
      refine Ex_aload_n dX7_getsSnapshot_35 rfl 0 rfl ?_
      refine Ex_aload_n dX7_getsSnapshot_36 rfl 1 rfl ?_
      refine Ex_gI dX7_getsSnapshot_37 lk_X7_72 rfl (fun x46 => ?_)
      refine Ex_pV dX7_getsSnapshot_40 lk_X7_220 rfl rfl rfl rfl ?_
      refine Ex_aload_n dX7_getsSnapshot_43 rfl 0 rfl ?_
      refine Ex_aload_n dX7_getsSnapshot_44 rfl 1 rfl ?_
      refine Ex_gR dX7_getsSnapshot_45 lk_X7_310 rfl (fun x47 => ?_)
      refine Ex_bnR (Inv_V (L_X9_copy hG x47) (lw_V q2351 q2352 q2353 q57 q2354) oe_18 ⟨rfl, hm_X9_copy⟩ (by decide) (by decide) dX7_getsSnapshot_48 rfl (Nat.le_of_ble_eq_true rfl)) (fun r48 => ?_)
      refine Ex_pV dX7_getsSnapshot_51 lk_X7_68 rfl rfl rfl rfl ?_
      exact hj41 ()
-- QuorumAlmanacModel$Node.gets(LQuorumAlmanacModel$Message;)V
def m_X7_gets (a0 : Nat) (a1 : Nat) : Ms Unit :=
  gI [19] 76 a1 fun x136 =>
  bn (ko [16] a0 (m_X7_follow a0 x136)) fun _ =>
  gI [16] 55 a0 fun x137 =>
  pV [16] 62 a0 (.int x137) <|
  gI [16] 55 a0 fun x138 =>
  pV [16] 63 a0 (.int x138) <|
  gI [19] 74 a1 fun x139 =>
  pV [16] 64 a0 (.int x139) <|
  gI [19] 77 a1 fun x140 =>
  pV [16] 66 a0 (.int x140) <|
  gI [19] 73 a1 fun x141 =>
  if ¬ x141 = 115 then
    gI [19] 78 a1 fun x142 =>
    gR [16] 132 a0 fun x143 =>
    gI [17] 68 x143 fun x144 =>
    jn (fun (v145 : Int32) =>
        if v145 = (-1) then
          lp (fun j148 (v147 : Int32) =>
              gR [19] 143 a1 fun x149 =>
              bn (ko [22] x149 (m_J2_size x149)) fun r150 =>
              if r150 ≤ v147 then
                gI [16] 65 a0 fun x151 =>
                gI [19] 78 a1 fun x152 =>
                gR [19] 143 a1 fun x153 =>
                bn (ko [22] x153 (m_J2_size x153)) fun r154 =>
                pV [16] 65 a0 (.int (iMax x151 (x152 + r154))) <|
                gI [16] 61 a0 fun x155 =>
                gI [19] 78 a1 fun x156 =>
                gR [19] 143 a1 fun x157 =>
                bn (ko [22] x157 (m_J2_size x157)) fun r158 =>
                gI [19] 81 a1 fun x159 =>
                bn (ko [16] a0 (m_X7_commits a0 (iMax x155 (iMin (x156 + r158) x159)))) fun _ =>
                bn (ko [16] a0 (m_X7_answers a0)) fun _ =>
                rt ()
              else
                gI [19] 78 a1 fun x160 =>
                bn (ko [16] a0 (m_X7_has a0 ((x160 + 1) + v147))) fun r161 =>
                jn (fun (v162 : Unit) =>
                    bn (ko [16] a0 (m_X7_last a0)) fun r164 =>
                    jn (fun (v165 : Int32) =>
                        j148 (v147 + 1))
                      fun j166 =>
                      jn (fun (v167 : Unit) =>
                          j166 0)
                        fun j168 =>
                        if ((x160 + 1) + v147) ≤ r164 then
                          j168 ()
                        else
                          gR [16] 133 a0 fun x169 =>
                          gR [19] 143 a1 fun x170 =>
                          bn (ko [22] x170 (m_J2_get x170 v147)) fun r171 =>
                          ko [20] r171 <|
                          bn (ko [22] x169 (m_J2_add x169 r171)) fun r172 =>
                          if r172 = 0 then
                            j168 ()
                          else
                            j166 1)
                  fun j163 =>
                  if r161 = 0 then
                    j163 ()
                  else
                    bn (ko [16] a0 (m_X7_entry a0 ((x160 + 1) + v147))) fun r173 =>
                    gI [20] 82 r173 fun x174 =>
                    gR [19] 143 a1 fun x175 =>
                    bn (ko [22] x175 (m_J2_get x175 v147)) fun r176 =>
                    ko [20] r176 <|
                    gI [20] 82 r176 fun x177 =>
                    if x174 = x177 then
                      j163 ()
                    else
                      bn (ko [16] a0 (m_X7_cuts a0 ((x160 + 1) + v147))) fun _ =>
                      j163 ())
            0
        else
          gR [16] 139 a0 fun x178 =>
          gI [15] 53 x178 fun x179 =>
          pV [15] 53 x178 (.int (x179 + 1)) <|
          gR [16] 139 a0 fun x180 =>
          gI [16] 54 a0 fun x181 =>
          gI [19] 74 a1 fun x182 =>
          bn (ko [15] x180 (m_X6_send x180 107 x181 x182)) fun r183 =>
          gI [16] 56 a0 fun x184 =>
          pV [19] 76 r183 (.int x184) <|
          gI [19] 77 a1 fun x185 =>
          pV [19] 77 r183 (.int x185) <|
          pV [19] 80 r183 (.int 0) <|
          pV [19] 78 r183 (.int v145) <|
          rt ())
      fun j146 =>
      if x144 ≤ x142 then
        gI [19] 78 a1 fun x186 =>
        bn (ko [16] a0 (m_X7_last a0)) fun r187 =>
        if x186 ≤ r187 then
          gI [19] 78 a1 fun x188 =>
          gR [16] 132 a0 fun x189 =>
          gI [17] 68 x189 fun x190 =>
          jn (fun (v191 : Unit) =>
              j146 (-1))
            fun j192 =>
            if x188 ≤ x190 then
              j192 ()
            else
              gI [19] 78 a1 fun x193 =>
              bn (ko [16] a0 (m_X7_entry a0 x193)) fun r194 =>
              gI [20] 82 r194 fun x195 =>
              gI [19] 79 a1 fun x196 =>
              if x195 = x196 then
                j192 ()
              else
                gI [19] 78 a1 fun x197 =>
                j146 (x197 - 1)
        else
          bn (ko [16] a0 (m_X7_last a0)) fun r198 =>
          j146 r198
      else
        gR [16] 132 a0 fun x199 =>
        gI [17] 68 x199 fun x200 =>
        j146 x200
  else
    gR [19] 144 a1 fun x201 =>
    bn (ko [16] a0 (m_X7_getsSnapshot a0 x201)) fun _ =>
    bn (ko [16] a0 (m_X7_answers a0)) fun _ =>
    rt ()
theorem hm_X7_gets : (yX7_gets.cls ≠ "java/lang/invoke/MethodHandle" ∧ yX7_gets.cls ≠ "java/lang/invoke/VarHandle" ∧ (parseMethodDescriptor yX7_gets.desc).map (fun d => d.parameters.length) = some 1) := by decide +kernel
set_option maxHeartbeats 4000000 in
set_option maxRecDepth 100000 in
theorem L_X7_gets {G : GT} (hG : GOK G) (a0 : Nat) (a1 : Nat) : Cal G yX7_gets (ws_ yX7_gets cX7_gets 6 (Option.none : Option Jvm.ClassFile.FieldType)) 11 259 [.ref a0, .ref a1] rU (m_X7_gets a0 a1) := by
  refine Cal_of hG (by decide +kernel) (Nat.le_of_ble_eq_true rfl) (lv0 := [(0, .ref a0), (1, .ref a1)]) rfl (fun X σ0 => ?_)
  delta m_X7_gets
  refine Ex_aload_n dX7_gets_0 rfl 0 rfl ?_
  refine Ex_aload_n dX7_gets_1 rfl 1 rfl ?_
  refine Ex_gI dX7_gets_2 lk_X7_184 rfl (fun x136 => ?_)
  refine Ex_bnU (Inv_V (L_X7_follow hG a0 x136) (lw_V q2473 q2474 q2475 q55 q2476) oe_16 ⟨rfl, hm_X7_follow⟩ (by decide) (by decide) dX7_gets_5 rfl (Nat.le_of_ble_eq_true rfl)) (fun _ => ?_)
  refine Ex_aload_n dX7_gets_8 rfl 0 rfl ?_
  refine Ex_aload_n dX7_gets_9 rfl 0 rfl ?_
  refine Ex_gI dX7_gets_10 lk_X7_160 rfl (fun x137 => ?_)
  refine Ex_pV dX7_gets_13 lk_X7_174 rfl rfl rfl rfl ?_
  refine Ex_aload_n dX7_gets_16 rfl 0 rfl ?_
  refine Ex_aload_n dX7_gets_17 rfl 0 rfl ?_
  refine Ex_gI dX7_gets_18 lk_X7_160 rfl (fun x138 => ?_)
  refine Ex_pV dX7_gets_21 lk_X7_34 rfl rfl rfl rfl ?_
  refine Ex_aload_n dX7_gets_24 rfl 0 rfl ?_
  refine Ex_aload_n dX7_gets_25 rfl 1 rfl ?_
  refine Ex_gI dX7_gets_26 lk_X7_276 rfl (fun x139 => ?_)
  refine Ex_pV dX7_gets_29 lk_X7_37 rfl rfl rfl rfl ?_
  refine Ex_aload_n dX7_gets_32 rfl 0 rfl ?_
  refine Ex_aload_n dX7_gets_33 rfl 1 rfl ?_
  refine Ex_gI dX7_gets_34 lk_X7_216 rfl (fun x140 => ?_)
  refine Ex_pV dX7_gets_37 lk_X7_130 rfl rfl rfl rfl ?_
  refine Ex_aload_n dX7_gets_40 rfl 1 rfl ?_
  refine Ex_gI dX7_gets_41 lk_X7_265 rfl (fun x141 => ?_)
  refine Ex_bipush (v := 115) dX7_gets_44 (by decide) ?_
  refine Ex_icmp_ne (tgt := 62) dX7_gets_46 (by decide) ?_ ?_
  · refine Ex_aload_n dX7_gets_62 rfl 1 rfl ?_
    refine Ex_gI dX7_gets_63 lk_X7_187 rfl (fun x142 => ?_)
    refine Ex_aload_n dX7_gets_66 rfl 0 rfl ?_
    refine Ex_gR dX7_gets_67 lk_X7_64 rfl (fun x143 => ?_)
    refine Ex_gI dX7_gets_70 lk_X7_72 rfl (fun x144 => ?_)
    refine Ex_jn (γ := Int32) (pj := 146) (fun v145 => [(0, .ref a0), (1, .ref a1)]) (fun v145 => [.int v145]) (fun v145 => ?_) (fun j146 hj146 => ?_)
    · refine Ex_istore_n (lv' := [(0, .ref a0), (1, .ref a1), (2, .int v145)]) dX7_gets_146 rfl (by decide) [1, 2, 0] rfl ?_
      refine Ex_iload_n dX7_gets_147 rfl 2 rfl ?_
      refine Ex_iconst (v := (-1)) dX7_gets_148 (by decide) ?_
      refine Ex_icmp_eq (tgt := 210) dX7_gets_149 (by decide) ?_ ?_
      · refine Ex_iconst (v := 0) dX7_gets_210 (by decide) ?_
        refine Ex_istore_n (lv' := [(0, .ref a0), (1, .ref a1), (2, .int v145), (3, .int 0)]) dX7_gets_211 rfl (by decide) [1, 2, 3, 0] rfl ?_
        refine Ex_lv [0, 1, 3] (lv' := [(0, .ref a0), (1, .ref a1), (3, .int 0)]) rfl ?_
        refine Ex_lp (γ := Int32) (pj := 212) (fun v147 => [(0, .ref a0), (1, .ref a1), (3, .int v147)]) (fun v147 => []) (fun j148 hj148 v147 => ?_) 0 rfl rfl
        refine Ex_iload_n dX7_gets_212 rfl 2 rfl ?_
        refine Ex_aload_n dX7_gets_213 rfl 1 rfl ?_
        refine Ex_gR dX7_gets_214 lk_X7_226 rfl (fun x149 => ?_)
        refine Ex_bnI (Inv_V (L_J2_size hG x149) (lw_V q2124 q112 q113 q48 q114) oe_22 ⟨rfl, hm_J2_size⟩ (by decide) (by decide) dX7_gets_217 rfl (Nat.le_of_ble_eq_true rfl)) (fun r150 => ?_)
        refine Ex_icmp_ge (tgt := 317) dX7_gets_220 (by decide) ?_ ?_
        · refine Ex_aload_n dX7_gets_317 rfl 0 rfl ?_
          refine Ex_aload_n dX7_gets_318 rfl 0 rfl ?_
          refine Ex_gI dX7_gets_319 lk_X7_127 rfl (fun x151 => ?_)
          refine Ex_aload_n dX7_gets_322 rfl 1 rfl ?_
          refine Ex_gI dX7_gets_323 lk_X7_187 rfl (fun x152 => ?_)
          refine Ex_aload_n dX7_gets_326 rfl 1 rfl ?_
          refine Ex_gR dX7_gets_327 lk_X7_226 rfl (fun x153 => ?_)
          refine Ex_bnI (Inv_V (L_J2_size hG x153) (lw_V q2124 q112 q113 q48 q114) oe_22 ⟨rfl, hm_J2_size⟩ (by decide) (by decide) dX7_gets_330 rfl (Nat.le_of_ble_eq_true rfl)) (fun r154 => ?_)
          refine Ex_iadd dX7_gets_333 ?_
          refine Ex_mmax dX7_gets_334 q2314 q152 q49 q153 (by decide) (Nat.le_of_ble_eq_true rfl) ?_
          refine Ex_pV dX7_gets_337 lk_X7_127 rfl rfl rfl rfl ?_
          refine Ex_aload_n dX7_gets_340 rfl 0 rfl ?_
          refine Ex_aload_n dX7_gets_341 rfl 0 rfl ?_
          refine Ex_gI dX7_gets_342 lk_X7_220 rfl (fun x155 => ?_)
          refine Ex_aload_n dX7_gets_345 rfl 1 rfl ?_
          refine Ex_gI dX7_gets_346 lk_X7_187 rfl (fun x156 => ?_)
          refine Ex_aload_n dX7_gets_349 rfl 1 rfl ?_
          refine Ex_gR dX7_gets_350 lk_X7_226 rfl (fun x157 => ?_)
          refine Ex_bnI (Inv_V (L_J2_size hG x157) (lw_V q2124 q112 q113 q48 q114) oe_22 ⟨rfl, hm_J2_size⟩ (by decide) (by decide) dX7_gets_353 rfl (Nat.le_of_ble_eq_true rfl)) (fun r158 => ?_)
          refine Ex_iadd dX7_gets_356 ?_
          refine Ex_aload_n dX7_gets_357 rfl 1 rfl ?_
          refine Ex_gI dX7_gets_358 lk_X7_223 rfl (fun x159 => ?_)
          refine Ex_mmin dX7_gets_361 q2337 q149 q49 q150 (by decide) (Nat.le_of_ble_eq_true rfl) ?_
          refine Ex_mmax dX7_gets_364 q2314 q152 q49 q153 (by decide) (Nat.le_of_ble_eq_true rfl) ?_
          refine Ex_bnU (Inv_V (L_X7_commits hG a0 (iMax x155 (iMin (x156 + r158) x159))) (lw_V q2298 q2299 q2300 q55 q2301) oe_16 ⟨rfl, hm_X7_commits⟩ (by decide) (by decide) dX7_gets_367 rfl (Nat.le_of_ble_eq_true rfl)) (fun _ => ?_)
          refine Ex_aload_n dX7_gets_370 rfl 0 rfl ?_
          refine Ex_bnU (Inv_V (L_X7_answers hG a0) (lw_V q2333 q2334 q2335 q55 q2336) oe_16 ⟨rfl, hm_X7_answers⟩ (by decide) (by decide) dX7_gets_371 rfl (Nat.le_of_ble_eq_true rfl)) (fun _ => ?_)
          exact Ex_vreturn dX7_gets_374 rfl
        · refine Ex_aload_n dX7_gets_223 rfl 1 rfl ?_
          refine Ex_gI dX7_gets_224 lk_X7_187 rfl (fun x160 => ?_)
          refine Ex_iconst (v := 1) dX7_gets_227 (by decide) ?_
          refine Ex_iadd dX7_gets_228 ?_
          refine Ex_iload_n dX7_gets_229 rfl 2 rfl ?_
          refine Ex_iadd dX7_gets_230 ?_
          refine Ex_istore (lv' := [(0, .ref a0), (1, .ref a1), (3, .int v147), (4, .int ((x160 + 1) + v147))]) dX7_gets_231 (by decide) [1, 2, 3, 0] rfl ?_
          refine Ex_aload_n dX7_gets_233 rfl 0 rfl ?_
          refine Ex_iload dX7_gets_234 3 rfl ?_
          refine Ex_bnI (Inv_V (L_X7_has hG a0 ((x160 + 1) + v147)) (lw_V q2489 q2417 q2418 q55 q2419) oe_16 ⟨rfl, hm_X7_has⟩ (by decide) (by decide) dX7_gets_236 rfl (Nat.le_of_ble_eq_true rfl)) (fun r161 => ?_)
          refine Ex_jn (γ := Unit) (pj := 274) (fun v162 => [(0, .ref a0), (1, .ref a1), (3, .int v147), (4, .int ((x160 + 1) + v147))]) (fun v162 => []) (fun v162 => ?_) (fun j163 hj163 => ?_)
          · refine Ex_iload dX7_gets_274 3 rfl ?_
            refine Ex_aload_n dX7_gets_276 rfl 0 rfl ?_
            refine Ex_bnI (Inv_V (L_X7_last hG a0) (lw_V q2138 q2139 q2140 q55 q2141) oe_16 ⟨rfl, hm_X7_last⟩ (by decide) (by decide) dX7_gets_277 rfl (Nat.le_of_ble_eq_true rfl)) (fun r164 => ?_)
            refine Ex_jn (γ := Int32) (pj := 309) (fun v165 => [(0, .ref a0), (1, .ref a1), (3, .int v147)]) (fun v165 => [.int v165]) (fun v165 => ?_) (fun j166 hj166 => ?_)
            · refine Ex_istore (lv' := [(0, .ref a0), (1, .ref a1), (3, .int v147), (5, .int v165)]) dX7_gets_309 (by decide) [1, 2, 3, 0] rfl ?_
              refine Ex_iinc (j := 2) (lv' := [(0, .ref a0), (1, .ref a1), (3, .int (v147 + 1)), (5, .int v165)]) dX7_gets_311 rfl rfl (by decide) [1, 2, 0, 3] rfl ?_
              refine Ex_goto (tgt := 212) dX7_gets_314 (by decide) ?_
              refine Ex_lv [0, 1, 2] (lv' := [(0, .ref a0), (1, .ref a1), (3, .int (v147 + 1))]) rfl ?_
              exact hj148 (v147 + 1)
            · refine Ex_jn (γ := Unit) (pj := 308) (fun v167 => [(0, .ref a0), (1, .ref a1), (3, .int v147)]) (fun v167 => []) (fun v167 => ?_) (fun j168 hj168 => ?_)
              · refine Ex_iconst (v := 0) dX7_gets_308 (by decide) ?_
                exact hj166 0
              · refine Ex_icmp_le (tgt := 308) dX7_gets_280 (by decide) ?_ ?_
                · refine Ex_lv [0, 1, 2] (lv' := [(0, .ref a0), (1, .ref a1), (3, .int v147)]) rfl ?_
                  exact hj168 ()
                · refine Ex_aload_n dX7_gets_283 rfl 0 rfl ?_
                  refine Ex_gR dX7_gets_284 lk_X7_30 rfl (fun x169 => ?_)
                  refine Ex_aload_n dX7_gets_287 rfl 1 rfl ?_
                  refine Ex_gR dX7_gets_288 lk_X7_226 rfl (fun x170 => ?_)
                  refine Ex_iload_n dX7_gets_291 rfl 2 rfl ?_
                  refine Ex_bnR (Inv_V (L_J2_get hG x170 v147) (lw_V q2125 q415 q416 q48 q417) oe_22 ⟨rfl, hm_J2_get⟩ (by decide) (by decide) dX7_gets_292 rfl (Nat.le_of_ble_eq_true rfl)) (fun r171 => ?_)
                  refine Ex_ko dX7_gets_295 q2154 oc_QuorumAlmanacModel_Entry_20 ?_
                  refine Ex_bnI (Inv_V (L_J2_add hG x169 r171) (lw_V q2133 q935 q936 q48 q937) oe_22 ⟨rfl, hm_J2_add⟩ (by decide) (by decide) dX7_gets_298 rfl (Nat.le_of_ble_eq_true rfl)) (fun r172 => ?_)
                  refine Ex_if_eq (tgt := 308) dX7_gets_301 (by decide) ?_ ?_
                  · refine Ex_lv [0, 1, 2] (lv' := [(0, .ref a0), (1, .ref a1), (3, .int v147)]) rfl ?_
                    exact hj168 ()
                  · refine Ex_iconst (v := 1) dX7_gets_304 (by decide) ?_
                    refine Ex_goto (tgt := 309) dX7_gets_305 (by decide) ?_
                    refine Ex_lv [0, 1, 2] (lv' := [(0, .ref a0), (1, .ref a1), (3, .int v147)]) rfl ?_
                    exact hj166 1
          · refine Ex_if_eq (tgt := 274) dX7_gets_239 (by decide) ?_ ?_
            · exact hj163 ()
            · refine Ex_aload_n dX7_gets_242 rfl 0 rfl ?_
              refine Ex_iload dX7_gets_243 3 rfl ?_
              refine Ex_bnR (Inv_V (L_X7_entry hG a0 ((x160 + 1) + v147)) (lw_V q2150 q2151 q2152 q55 q2153) oe_16 ⟨rfl, hm_X7_entry⟩ (by decide) (by decide) dX7_gets_245 rfl (Nat.le_of_ble_eq_true rfl)) (fun r173 => ?_)
              refine Ex_gI dX7_gets_248 lk_X7_95 rfl (fun x174 => ?_)
              refine Ex_aload_n dX7_gets_251 rfl 1 rfl ?_
              refine Ex_gR dX7_gets_252 lk_X7_226 rfl (fun x175 => ?_)
              refine Ex_iload_n dX7_gets_255 rfl 2 rfl ?_
              refine Ex_bnR (Inv_V (L_J2_get hG x175 v147) (lw_V q2125 q415 q416 q48 q417) oe_22 ⟨rfl, hm_J2_get⟩ (by decide) (by decide) dX7_gets_256 rfl (Nat.le_of_ble_eq_true rfl)) (fun r176 => ?_)
              refine Ex_ko dX7_gets_259 q2154 oc_QuorumAlmanacModel_Entry_20 ?_
              refine Ex_gI dX7_gets_262 lk_X7_95 rfl (fun x177 => ?_)
              refine Ex_icmp_eq (tgt := 274) dX7_gets_265 (by decide) ?_ ?_
              · exact hj163 ()
              · refine Ex_aload_n dX7_gets_268 rfl 0 rfl ?_
                refine Ex_iload dX7_gets_269 3 rfl ?_
                refine Ex_bnU (Inv_V (L_X7_cuts hG a0 ((x160 + 1) + v147)) (lw_V q2346 q2347 q2348 q55 q2349) oe_16 ⟨rfl, hm_X7_cuts⟩ (by decide) (by decide) dX7_gets_271 rfl (Nat.le_of_ble_eq_true rfl)) (fun _ => ?_)
                exact hj163 ()
      · refine Ex_aload_n dX7_gets_152 rfl 0 rfl ?_
        refine Ex_gR dX7_gets_153 lk_X7_3 rfl (fun x178 => ?_)
        refine Ex_dup rfl dX7_gets_156 ?_
        refine Ex_gI dX7_gets_157 lk_X7_282 rfl (fun x179 => ?_)
        refine Ex_iconst (v := 1) dX7_gets_160 (by decide) ?_
        refine Ex_iadd dX7_gets_161 ?_
        refine Ex_pV dX7_gets_162 lk_X7_282 rfl rfl rfl rfl ?_
        refine Ex_aload_n dX7_gets_165 rfl 0 rfl ?_
        refine Ex_gR dX7_gets_166 lk_X7_3 rfl (fun x180 => ?_)
        refine Ex_bipush (v := 107) dX7_gets_169 (by decide) ?_
        refine Ex_aload_n dX7_gets_171 rfl 0 rfl ?_
        refine Ex_gI dX7_gets_172 lk_X7_53 rfl (fun x181 => ?_)
        refine Ex_aload_n dX7_gets_175 rfl 1 rfl ?_
        refine Ex_gI dX7_gets_176 lk_X7_276 rfl (fun x182 => ?_)
        refine Ex_bnR (Inv_VN (L_X6_send hG x180 107 x181 x182) q54 q2163 q2165 q2166 qs35 oe_15 hm_X6_send (by decide) (by decide) dX7_gets_179 rfl (Nat.le_of_ble_eq_true rfl)) (fun r183 => ?_)
        refine Ex_astore_n (lv' := [(0, .ref a0), (1, .ref a1), (2, .int v145), (3, .ref r183)]) dX7_gets_182 rfl (by decide) [1, 2, 3, 0] rfl ?_
        refine Ex_aload_n dX7_gets_183 rfl 3 rfl ?_
        refine Ex_aload_n dX7_gets_184 rfl 0 rfl ?_
        refine Ex_gI dX7_gets_185 lk_X7_126 rfl (fun x184 => ?_)
        refine Ex_pV dX7_gets_188 lk_X7_184 rfl rfl rfl rfl ?_
        refine Ex_aload_n dX7_gets_191 rfl 3 rfl ?_
        refine Ex_aload_n dX7_gets_192 rfl 1 rfl ?_
        refine Ex_gI dX7_gets_193 lk_X7_216 rfl (fun x185 => ?_)
        refine Ex_pV dX7_gets_196 lk_X7_216 rfl rfl rfl rfl ?_
        refine Ex_aload_n dX7_gets_199 rfl 3 rfl ?_
        refine Ex_iconst (v := 0) dX7_gets_200 (by decide) ?_
        refine Ex_pV dX7_gets_201 lk_X7_273 rfl rfl rfl rfl ?_
        refine Ex_aload_n dX7_gets_204 rfl 3 rfl ?_
        refine Ex_iload_n dX7_gets_205 rfl 2 rfl ?_
        refine Ex_pV dX7_gets_206 lk_X7_187 rfl rfl rfl rfl ?_
        exact Ex_vreturn dX7_gets_209 rfl
    · refine Ex_icmp_ge (tgt := 86) dX7_gets_73 (by decide) ?_ ?_
      · refine Ex_aload_n dX7_gets_86 rfl 1 rfl ?_
        refine Ex_gI dX7_gets_87 lk_X7_187 rfl (fun x186 => ?_)
        refine Ex_aload_n dX7_gets_90 rfl 0 rfl ?_
        refine Ex_bnI (Inv_V (L_X7_last hG a0) (lw_V q2138 q2139 q2140 q55 q2141) oe_16 ⟨rfl, hm_X7_last⟩ (by decide) (by decide) dX7_gets_91 rfl (Nat.le_of_ble_eq_true rfl)) (fun r187 => ?_)
        refine Ex_icmp_le (tgt := 104) dX7_gets_94 (by decide) ?_ ?_
        · refine Ex_aload_n dX7_gets_104 rfl 1 rfl ?_
          refine Ex_gI dX7_gets_105 lk_X7_187 rfl (fun x188 => ?_)
          refine Ex_aload_n dX7_gets_108 rfl 0 rfl ?_
          refine Ex_gR dX7_gets_109 lk_X7_64 rfl (fun x189 => ?_)
          refine Ex_gI dX7_gets_112 lk_X7_72 rfl (fun x190 => ?_)
          refine Ex_jn (γ := Unit) (pj := 145) (fun v191 => [(0, .ref a0), (1, .ref a1)]) (fun v191 => []) (fun v191 => ?_) (fun j192 hj192 => ?_)
          · refine Ex_iconst (v := (-1)) dX7_gets_145 (by decide) ?_
            exact hj146 (-1)
          · refine Ex_icmp_le (tgt := 145) dX7_gets_115 (by decide) ?_ ?_
            · exact hj192 ()
            · refine Ex_aload_n dX7_gets_118 rfl 0 rfl ?_
              refine Ex_aload_n dX7_gets_119 rfl 1 rfl ?_
              refine Ex_gI dX7_gets_120 lk_X7_187 rfl (fun x193 => ?_)
              refine Ex_bnR (Inv_V (L_X7_entry hG a0 x193) (lw_V q2150 q2151 q2152 q55 q2153) oe_16 ⟨rfl, hm_X7_entry⟩ (by decide) (by decide) dX7_gets_123 rfl (Nat.le_of_ble_eq_true rfl)) (fun r194 => ?_)
              refine Ex_gI dX7_gets_126 lk_X7_95 rfl (fun x195 => ?_)
              refine Ex_aload_n dX7_gets_129 rfl 1 rfl ?_
              refine Ex_gI dX7_gets_130 lk_X7_191 rfl (fun x196 => ?_)
              refine Ex_icmp_eq (tgt := 145) dX7_gets_133 (by decide) ?_ ?_
              · exact hj192 ()
              · refine Ex_aload_n dX7_gets_136 rfl 1 rfl ?_
                refine Ex_gI dX7_gets_137 lk_X7_187 rfl (fun x197 => ?_)
                refine Ex_iconst (v := 1) dX7_gets_140 (by decide) ?_
                refine Ex_isub dX7_gets_141 ?_
                refine Ex_goto (tgt := 146) dX7_gets_142 (by decide) ?_
                exact hj146 (x197 - 1)
        · refine Ex_aload_n dX7_gets_97 rfl 0 rfl ?_
          refine Ex_bnI (Inv_V (L_X7_last hG a0) (lw_V q2138 q2139 q2140 q55 q2141) oe_16 ⟨rfl, hm_X7_last⟩ (by decide) (by decide) dX7_gets_98 rfl (Nat.le_of_ble_eq_true rfl)) (fun r198 => ?_)
          refine Ex_goto (tgt := 146) dX7_gets_101 (by decide) ?_
          exact hj146 r198
      · refine Ex_aload_n dX7_gets_76 rfl 0 rfl ?_
        refine Ex_gR dX7_gets_77 lk_X7_64 rfl (fun x199 => ?_)
        refine Ex_gI dX7_gets_80 lk_X7_72 rfl (fun x200 => ?_)
        refine Ex_goto (tgt := 146) dX7_gets_83 (by decide) ?_
        exact hj146 x200
  · refine Ex_aload_n dX7_gets_49 rfl 0 rfl ?_
    refine Ex_aload_n dX7_gets_50 rfl 1 rfl ?_
    refine Ex_gR dX7_gets_51 lk_X7_219 rfl (fun x201 => ?_)
    refine Ex_bnU (Inv_V (L_X7_getsSnapshot hG a0 x201) (lw_V q2485 q2486 q2487 q55 q2488) oe_16 ⟨rfl, hm_X7_getsSnapshot⟩ (by decide) (by decide) dX7_gets_54 rfl (Nat.le_of_ble_eq_true rfl)) (fun _ => ?_)
    refine Ex_aload_n dX7_gets_57 rfl 0 rfl ?_
    refine Ex_bnU (Inv_V (L_X7_answers hG a0) (lw_V q2333 q2334 q2335 q55 q2336) oe_16 ⟨rfl, hm_X7_answers⟩ (by decide) (by decide) dX7_gets_58 rfl (Nat.le_of_ble_eq_true rfl)) (fun _ => ?_)
    exact Ex_vreturn dX7_gets_61 rfl
