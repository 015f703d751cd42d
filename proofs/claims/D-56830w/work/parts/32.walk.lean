-- QuorumAlmanacModel.failsNode(I)Z
def m_X6_failsNode (a0 : Nat) (x1 : Int32) : Ms Int32 :=
  bn (m_X6_in x1 0 4) fun r24 =>
  jn (fun (v25 : Int32 × Nat) =>
      bn (ko [15] v25.2 (m_X6_fails v25.2 v25.1)) fun r27 =>
      ck (r27 = 0 ∨ r27 = 1) <|
      rt r27)
    fun j26 =>
    if r24 = 0 then
      j26 (1, a0)
    else
      j26 (0, a0)
theorem hm_X6_failsNode : (yX6_failsNode.cls ≠ "java/lang/invoke/MethodHandle" ∧ yX6_failsNode.cls ≠ "java/lang/invoke/VarHandle" ∧ (parseMethodDescriptor yX6_failsNode.desc).map (fun d => d.parameters.length) = some 1) := by decide +kernel
set_option maxHeartbeats 4000000 in
set_option maxRecDepth 100000 in
theorem L_X6_failsNode {G : GT} (hG : GOK G) (a0 : Nat) (x1 : Int32) : Cal G yX6_failsNode (ws_ yX6_failsNode cX6_failsNode 2 (Option.some Jvm.ClassFile.FieldType.boolean)) 3 82 [.ref a0, .int x1] rI (m_X6_failsNode a0 x1) := by
  refine Cal_of hG (by decide +kernel) (Nat.le_of_ble_eq_true rfl) (lv0 := [(0, .ref a0), (1, .int x1)]) rfl (fun X σ0 => ?_)
  delta m_X6_failsNode
  refine Ex_aload_n dX6_failsNode_0 rfl 0 rfl ?_
  refine Ex_iload_n dX6_failsNode_1 rfl 1 rfl ?_
  refine Ex_iconst (v := 0) dX6_failsNode_2 (by decide) ?_
  refine Ex_iconst (v := 4) dX6_failsNode_3 (by decide) ?_
  refine Ex_bnI (Inv_S (L_X6_in hG x1 0 4) (lw_S q2113 q2114 q54 q2115) hm_X6_in (by decide) (by decide) dX6_failsNode_4 rfl (Nat.le_of_ble_eq_true rfl)) (fun r24 => ?_)
  refine Ex_jn (γ := Int32 × Nat) (pj := 15) (fun v25 => []) (fun v25 => [.int v25.1, .ref v25.2]) (fun v25 => ?_) (fun j26 hj26 => ?_)
  · refine Ex_bnI (Inv_V (L_X6_fails hG v25.2 v25.1) (lw_V q2116 q2118 qs34 q54 q2119) oe_15 ⟨rfl, hm_X6_fails⟩ (by decide) (by decide) dX6_failsNode_15 rfl (Nat.le_of_ble_eq_true rfl)) (fun r27 => ?_)
    refine Ex_ck (fun hz => ?_)
    exact Ex_zreturn dX6_failsNode_18 rfl (zok_n hz)
  · refine Ex_if_eq (tgt := 14) dX6_failsNode_7 (by decide) ?_ ?_
    · refine Ex_iconst (v := 1) dX6_failsNode_14 (by decide) ?_
      refine Ex_lv [] (lv' := []) rfl ?_
      exact hj26 (1, a0)
    · refine Ex_iconst (v := 0) dX6_failsNode_10 (by decide) ?_
      refine Ex_goto (tgt := 15) dX6_failsNode_11 (by decide) ?_
      refine Ex_lv [] (lv' := []) rfl ?_
      exact hj26 (0, a0)
-- QuorumAlmanacModel$Node.last()I
def m_X7_last (a0 : Nat) : Ms Int32 :=
  gR [16] 132 a0 fun x28 =>
  gI [17] 68 x28 fun x29 =>
  gR [16] 133 a0 fun x30 =>
  bn (ko [22] x30 (m_J2_size x30)) fun r31 =>
  rt (x29 + r31)
theorem hm_X7_last : (yX7_last.cls ≠ "java/lang/invoke/MethodHandle" ∧ yX7_last.cls ≠ "java/lang/invoke/VarHandle" ∧ (parseMethodDescriptor yX7_last.desc).map (fun d => d.parameters.length) = some 0) := by decide +kernel
set_option maxHeartbeats 4000000 in
set_option maxRecDepth 100000 in
theorem L_X7_last {G : GT} (hG : GOK G) (a0 : Nat) : Cal G yX7_last (ws_ yX7_last cX7_last 1 (Option.some Jvm.ClassFile.FieldType.int)) 3 80 [.ref a0] rI (m_X7_last a0) := by
  refine Cal_of hG (by decide +kernel) (Nat.le_of_ble_eq_true rfl) (lv0 := [(0, .ref a0)]) rfl (fun X σ0 => ?_)
  delta m_X7_last
  refine Ex_aload_n dX7_last_0 rfl 0 rfl ?_
  refine Ex_gR dX7_last_1 lk_X7_64 rfl (fun x28 => ?_)
  refine Ex_gI dX7_last_4 lk_X7_72 rfl (fun x29 => ?_)
  refine Ex_aload_n dX7_last_7 rfl 0 rfl ?_
  refine Ex_gR dX7_last_8 lk_X7_30 rfl (fun x30 => ?_)
  refine Ex_bnI (Inv_V (L_J2_size hG x30) (lw_V q2124 q112 q113 q48 q114) oe_22 ⟨rfl, hm_J2_size⟩ (by decide) (by decide) dX7_last_11 rfl (Nat.le_of_ble_eq_true rfl)) (fun r31 => ?_)
  refine Ex_iadd dX7_last_14 ?_
  exact Ex_ireturn dX7_last_15 rfl
-- QuorumAlmanacModel$Node.entry(I)LQuorumAlmanacModel$Entry;
def m_X7_entry (a0 : Nat) (x1 : Int32) : Ms Nat :=
  gR [16] 133 a0 fun x28 =>
  gR [16] 132 a0 fun x29 =>
  gI [17] 68 x29 fun x30 =>
  bn (ko [22] x28 (m_J2_get x28 ((x1 - x30) - 1))) fun r31 =>
  ko [20] r31 <|
  rt r31
theorem hm_X7_entry : (yX7_entry.cls ≠ "java/lang/invoke/MethodHandle" ∧ yX7_entry.cls ≠ "java/lang/invoke/VarHandle" ∧ (parseMethodDescriptor yX7_entry.desc).map (fun d => d.parameters.length) = some 1) := by decide +kernel
set_option maxHeartbeats 4000000 in
set_option maxRecDepth 100000 in
theorem L_X7_entry {G : GT} (hG : GOK G) (a0 : Nat) (x1 : Int32) : Cal G yX7_entry (ws_ yX7_entry cX7_entry 2 (Option.some (Jvm.ClassFile.FieldType.object "QuorumAlmanacModel$Entry"))) 5 124 [.ref a0, .int x1] rR (m_X7_entry a0 x1) := by
  refine Cal_of hG (by decide +kernel) (Nat.le_of_ble_eq_true rfl) (lv0 := [(0, .ref a0), (1, .int x1)]) rfl (fun X σ0 => ?_)
  delta m_X7_entry
  refine Ex_aload_n dX7_entry_0 rfl 0 rfl ?_
  refine Ex_gR dX7_entry_1 lk_X7_30 rfl (fun x28 => ?_)
  refine Ex_iload_n dX7_entry_4 rfl 1 rfl ?_
  refine Ex_aload_n dX7_entry_5 rfl 0 rfl ?_
  refine Ex_gR dX7_entry_6 lk_X7_64 rfl (fun x29 => ?_)
  refine Ex_gI dX7_entry_9 lk_X7_72 rfl (fun x30 => ?_)
  refine Ex_isub dX7_entry_12 ?_
  refine Ex_iconst (v := 1) dX7_entry_13 (by decide) ?_
  refine Ex_isub dX7_entry_14 ?_
  refine Ex_bnR (Inv_V (L_J2_get hG x28 ((x1 - x30) - 1)) (lw_V q2125 q415 q416 q48 q417) oe_22 ⟨rfl, hm_J2_get⟩ (by decide) (by decide) dX7_entry_15 rfl (Nat.le_of_ble_eq_true rfl)) (fun r31 => ?_)
  refine Ex_ko dX7_entry_18 q2154 oc_QuorumAlmanacModel_Entry_20 ?_
  exact Ex_areturn dX7_entry_21 rfl (Or.inl ⟨_, rfl⟩)
-- QuorumAlmanacModel$Node.latestChange(I)I
def m_X7_latestChange (a0 : Nat) (x1 : Int32) : Ms Int32 :=
  gR [16] 132 a0 fun x32 =>
  gI [17] 68 x32 fun x33 =>
  lp (fun j35 (v34 : Int32 × Int32) =>
      if x1 < v34.2 then
        rt v34.1
      else
        bn (ko [16] a0 (m_X7_entry a0 v34.2)) fun r36 =>
        gI [20] 83 r36 fun x37 =>
        jn (fun (v38 : Int32) =>
            j35 (v38, (v34.2 + 1)))
          fun j39 =>
          jn (fun (v40 : Unit) =>
              j39 v34.2)
            fun j41 =>
            if x37 = 106 then
              j41 ()
            else
              bn (ko [16] a0 (m_X7_entry a0 v34.2)) fun r42 =>
              gI [20] 83 r42 fun x43 =>
              if ¬ x43 = 110 then
                j39 v34.1
              else
                j41 ())
    (0, (x33 + 1))
theorem hm_X7_latestChange : (yX7_latestChange.cls ≠ "java/lang/invoke/MethodHandle" ∧ yX7_latestChange.cls ≠ "java/lang/invoke/VarHandle" ∧ (parseMethodDescriptor yX7_latestChange.desc).map (fun d => d.parameters.length) = some 1) := by decide +kernel
set_option maxHeartbeats 4000000 in
set_option maxRecDepth 100000 in
theorem L_X7_latestChange {G : GT} (hG : GOK G) (a0 : Nat) (x1 : Int32) : Cal G yX7_latestChange (ws_ yX7_latestChange cX7_latestChange 4 (Option.some Jvm.ClassFile.FieldType.int)) 6 145 [.ref a0, .int x1] rI (m_X7_latestChange a0 x1) := by
  refine Cal_of hG (by decide +kernel) (Nat.le_of_ble_eq_true rfl) (lv0 := [(0, .ref a0), (1, .int x1)]) rfl (fun X σ0 => ?_)
  delta m_X7_latestChange
  refine Ex_iconst (v := 0) dX7_latestChange_0 (by decide) ?_
  refine Ex_istore_n (lv' := [(0, .ref a0), (1, .int x1), (2, .int 0)]) dX7_latestChange_1 rfl (by decide) [1, 2, 0] rfl ?_
  refine Ex_aload_n dX7_latestChange_2 rfl 0 rfl ?_
  refine Ex_gR dX7_latestChange_3 lk_X7_64 rfl (fun x32 => ?_)
  refine Ex_gI dX7_latestChange_6 lk_X7_72 rfl (fun x33 => ?_)
  refine Ex_iconst (v := 1) dX7_latestChange_9 (by decide) ?_
  refine Ex_iadd dX7_latestChange_10 ?_
  refine Ex_istore_n (lv' := [(0, .ref a0), (1, .int x1), (2, .int 0), (3, .int (x33 + 1))]) dX7_latestChange_11 rfl (by decide) [1, 2, 3, 0] rfl ?_
  refine Ex_lp (γ := Int32 × Int32) (pj := 12) (fun v34 => [(0, .ref a0), (1, .int x1), (2, .int v34.1), (3, .int v34.2)]) (fun v34 => []) (fun j35 hj35 v34 => ?_) (0, (x33 + 1)) rfl rfl
  refine Ex_iload_n dX7_latestChange_12 rfl 3 rfl ?_
  refine Ex_iload_n dX7_latestChange_13 rfl 1 rfl ?_
  refine Ex_icmp_gt (tgt := 55) dX7_latestChange_14 (by decide) ?_ ?_
  · refine Ex_iload_n dX7_latestChange_55 rfl 2 rfl ?_
    exact Ex_ireturn dX7_latestChange_56 rfl
  · refine Ex_aload_n dX7_latestChange_17 rfl 0 rfl ?_
    refine Ex_iload_n dX7_latestChange_18 rfl 3 rfl ?_
    refine Ex_bnR (Inv_V (L_X7_entry hG a0 v34.2) (lw_V q2150 q2151 q2152 q55 q2153) oe_16 ⟨rfl, hm_X7_entry⟩ (by decide) (by decide) dX7_latestChange_19 rfl (Nat.le_of_ble_eq_true rfl)) (fun r36 => ?_)
    refine Ex_gI dX7_latestChange_22 lk_X7_96 rfl (fun x37 => ?_)
    refine Ex_bipush (v := 106) dX7_latestChange_25 (by decide) ?_
    refine Ex_jn (γ := Int32) (pj := 48) (fun v38 => [(0, .ref a0), (1, .int x1), (3, .int v34.2)]) (fun v38 => [.int v38]) (fun v38 => ?_) (fun j39 hj39 => ?_)
    · refine Ex_istore_n (lv' := [(0, .ref a0), (1, .int x1), (2, .int v38), (3, .int v34.2)]) dX7_latestChange_48 rfl (by decide) [1, 2, 0, 3] rfl ?_
      refine Ex_iinc (j := 3) (lv' := [(0, .ref a0), (1, .int x1), (2, .int v38), (3, .int (v34.2 + 1))]) dX7_latestChange_49 rfl rfl (by decide) [1, 2, 3, 0] rfl ?_
      refine Ex_goto (tgt := 12) dX7_latestChange_52 (by decide) ?_
      exact hj35 (v38, (v34.2 + 1))
    · refine Ex_jn (γ := Unit) (pj := 43) (fun v40 => [(0, .ref a0), (1, .int x1), (3, .int v34.2)]) (fun v40 => []) (fun v40 => ?_) (fun j41 hj41 => ?_)
      · refine Ex_iload_n dX7_latestChange_43 rfl 2 rfl ?_
        refine Ex_goto (tgt := 48) dX7_latestChange_44 (by decide) ?_
        exact hj39 v34.2
      · refine Ex_icmp_eq (tgt := 43) dX7_latestChange_27 (by decide) ?_ ?_
        · refine Ex_lv [0, 1, 3] (lv' := [(0, .ref a0), (1, .int x1), (3, .int v34.2)]) rfl ?_
          exact hj41 ()
        · refine Ex_aload_n dX7_latestChange_30 rfl 0 rfl ?_
          refine Ex_iload_n dX7_latestChange_31 rfl 3 rfl ?_
          refine Ex_bnR (Inv_V (L_X7_entry hG a0 v34.2) (lw_V q2150 q2151 q2152 q55 q2153) oe_16 ⟨rfl, hm_X7_entry⟩ (by decide) (by decide) dX7_latestChange_32 rfl (Nat.le_of_ble_eq_true rfl)) (fun r42 => ?_)
          refine Ex_gI dX7_latestChange_35 lk_X7_96 rfl (fun x43 => ?_)
          refine Ex_bipush (v := 110) dX7_latestChange_38 (by decide) ?_
          refine Ex_icmp_ne (tgt := 47) dX7_latestChange_40 (by decide) ?_ ?_
          · refine Ex_iload_n dX7_latestChange_47 rfl 2 rfl ?_
            refine Ex_lv [0, 1, 3] (lv' := [(0, .ref a0), (1, .int x1), (3, .int v34.2)]) rfl ?_
            exact hj39 v34.1
          · refine Ex_lv [0, 1, 3] (lv' := [(0, .ref a0), (1, .int x1), (3, .int v34.2)]) rfl ?_
            exact hj41 ()
-- QuorumAlmanacModel$Node.old(I)I
def m_X7_old (a0 : Nat) (x1 : Int32) : Ms Int32 :=
  bn (ko [16] a0 (m_X7_latestChange a0 x1)) fun r30 =>
  jn (fun (v31 : Int32) =>
      rt v31)
    fun j32 =>
    if ¬ r30 = 0 then
      bn (ko [16] a0 (m_X7_entry a0 r30)) fun r33 =>
      gI [20] 84 r33 fun x34 =>
      j32 x34
    else
      gR [16] 132 a0 fun x35 =>
      gI [17] 70 x35 fun x36 =>
      j32 x36
theorem hm_X7_old : (yX7_old.cls ≠ "java/lang/invoke/MethodHandle" ∧ yX7_old.cls ≠ "java/lang/invoke/VarHandle" ∧ (parseMethodDescriptor yX7_old.desc).map (fun d => d.parameters.length) = some 1) := by decide +kernel
set_option maxHeartbeats 4000000 in
set_option maxRecDepth 100000 in
theorem L_X7_old {G : GT} (hG : GOK G) (a0 : Nat) (x1 : Int32) : Cal G yX7_old (ws_ yX7_old cX7_old 3 (Option.some Jvm.ClassFile.FieldType.int)) 7 168 [.ref a0, .int x1] rI (m_X7_old a0 x1) := by
  refine Cal_of hG (by decide +kernel) (Nat.le_of_ble_eq_true rfl) (lv0 := [(0, .ref a0), (1, .int x1)]) rfl (fun X σ0 => ?_)
  delta m_X7_old
  refine Ex_aload_n dX7_old_0 rfl 0 rfl ?_
  refine Ex_iload_n dX7_old_1 rfl 1 rfl ?_
  refine Ex_bnI (Inv_V (L_X7_latestChange hG a0 x1) (lw_V q2146 q2147 q2148 q55 q2149) oe_16 ⟨rfl, hm_X7_latestChange⟩ (by decide) (by decide) dX7_old_2 rfl (Nat.le_of_ble_eq_true rfl)) (fun r30 => ?_)
  refine Ex_istore_n (lv' := [(0, .ref a0), (1, .int x1), (2, .int r30)]) dX7_old_5 rfl (by decide) [1, 2, 0] rfl ?_
  refine Ex_iload_n dX7_old_6 rfl 2 rfl ?_
  refine Ex_jn (γ := Int32) (pj := 28) (fun v31 => []) (fun v31 => [.int v31]) (fun v31 => ?_) (fun j32 hj32 => ?_)
  · exact Ex_ireturn dX7_old_28 rfl
  · refine Ex_if_ne (tgt := 20) dX7_old_7 (by decide) ?_ ?_
    · refine Ex_aload_n dX7_old_20 rfl 0 rfl ?_
      refine Ex_iload_n dX7_old_21 rfl 2 rfl ?_
      refine Ex_bnR (Inv_V (L_X7_entry hG a0 r30) (lw_V q2150 q2151 q2152 q55 q2153) oe_16 ⟨rfl, hm_X7_entry⟩ (by decide) (by decide) dX7_old_22 rfl (Nat.le_of_ble_eq_true rfl)) (fun r33 => ?_)
      refine Ex_gI dX7_old_25 lk_X7_106 rfl (fun x34 => ?_)
      refine Ex_lv [] (lv' := []) rfl ?_
      exact hj32 x34
    · refine Ex_aload_n dX7_old_10 rfl 0 rfl ?_
      refine Ex_gR dX7_old_11 lk_X7_64 rfl (fun x35 => ?_)
      refine Ex_gI dX7_old_14 lk_X7_103 rfl (fun x36 => ?_)
      refine Ex_goto (tgt := 28) dX7_old_17 (by decide) ?_
      refine Ex_lv [] (lv' := []) rfl ?_
      exact hj32 x36
-- QuorumAlmanacModel$Node.fresh(I)I
def m_X7_fresh (a0 : Nat) (x1 : Int32) : Ms Int32 :=
  bn (ko [16] a0 (m_X7_latestChange a0 x1)) fun r34 =>
  jn (fun (v35 : Int32) =>
      rt v35)
    fun j36 =>
    if ¬ r34 = 0 then
      bn (ko [16] a0 (m_X7_entry a0 r34)) fun r37 =>
      gI [20] 83 r37 fun x38 =>
      if ¬ x38 = 106 then
        j36 0
      else
        bn (ko [16] a0 (m_X7_entry a0 r34)) fun r39 =>
        gI [20] 85 r39 fun x40 =>
        j36 x40
    else
      gR [16] 132 a0 fun x41 =>
      gI [17] 71 x41 fun x42 =>
      j36 x42
theorem hm_X7_fresh : (yX7_fresh.cls ≠ "java/lang/invoke/MethodHandle" ∧ yX7_fresh.cls ≠ "java/lang/invoke/VarHandle" ∧ (parseMethodDescriptor yX7_fresh.desc).map (fun d => d.parameters.length) = some 1) := by decide +kernel
set_option maxHeartbeats 4000000 in
set_option maxRecDepth 100000 in
theorem L_X7_fresh {G : GT} (hG : GOK G) (a0 : Nat) (x1 : Int32) : Cal G yX7_fresh (ws_ yX7_fresh cX7_fresh 3 (Option.some Jvm.ClassFile.FieldType.int)) 7 168 [.ref a0, .int x1] rI (m_X7_fresh a0 x1) := by
  refine Cal_of hG (by decide +kernel) (Nat.le_of_ble_eq_true rfl) (lv0 := [(0, .ref a0), (1, .int x1)]) rfl (fun X σ0 => ?_)
  delta m_X7_fresh
  refine Ex_aload_n dX7_fresh_0 rfl 0 rfl ?_
  refine Ex_iload_n dX7_fresh_1 rfl 1 rfl ?_
  refine Ex_bnI (Inv_V (L_X7_latestChange hG a0 x1) (lw_V q2146 q2147 q2148 q55 q2149) oe_16 ⟨rfl, hm_X7_latestChange⟩ (by decide) (by decide) dX7_fresh_2 rfl (Nat.le_of_ble_eq_true rfl)) (fun r34 => ?_)
  refine Ex_istore_n (lv' := [(0, .ref a0), (1, .int x1), (2, .int r34)]) dX7_fresh_5 rfl (by decide) [1, 2, 0] rfl ?_
  refine Ex_iload_n dX7_fresh_6 rfl 2 rfl ?_
  refine Ex_jn (γ := Int32) (pj := 45) (fun v35 => []) (fun v35 => [.int v35]) (fun v35 => ?_) (fun j36 hj36 => ?_)
  · exact Ex_ireturn dX7_fresh_45 rfl
  · refine Ex_if_ne (tgt := 20) dX7_fresh_7 (by decide) ?_ ?_
    · refine Ex_aload_n dX7_fresh_20 rfl 0 rfl ?_
      refine Ex_iload_n dX7_fresh_21 rfl 2 rfl ?_
      refine Ex_bnR (Inv_V (L_X7_entry hG a0 r34) (lw_V q2150 q2151 q2152 q55 q2153) oe_16 ⟨rfl, hm_X7_entry⟩ (by decide) (by decide) dX7_fresh_22 rfl (Nat.le_of_ble_eq_true rfl)) (fun r37 => ?_)
      refine Ex_gI dX7_fresh_25 lk_X7_96 rfl (fun x38 => ?_)
      refine Ex_bipush (v := 106) dX7_fresh_28 (by decide) ?_
      refine Ex_icmp_ne (tgt := 44) dX7_fresh_30 (by decide) ?_ ?_
      · refine Ex_iconst (v := 0) dX7_fresh_44 (by decide) ?_
        refine Ex_lv [] (lv' := []) rfl ?_
        exact hj36 0
      · refine Ex_aload_n dX7_fresh_33 rfl 0 rfl ?_
        refine Ex_iload_n dX7_fresh_34 rfl 2 rfl ?_
        refine Ex_bnR (Inv_V (L_X7_entry hG a0 r34) (lw_V q2150 q2151 q2152 q55 q2153) oe_16 ⟨rfl, hm_X7_entry⟩ (by decide) (by decide) dX7_fresh_35 rfl (Nat.le_of_ble_eq_true rfl)) (fun r39 => ?_)
        refine Ex_gI dX7_fresh_38 lk_X7_112 rfl (fun x40 => ?_)
        refine Ex_goto (tgt := 45) dX7_fresh_41 (by decide) ?_
        refine Ex_lv [] (lv' := []) rfl ?_
        exact hj36 x40
    · refine Ex_aload_n dX7_fresh_10 rfl 0 rfl ?_
      refine Ex_gR dX7_fresh_11 lk_X7_64 rfl (fun x41 => ?_)
      refine Ex_gI dX7_fresh_14 lk_X7_109 rfl (fun x42 => ?_)
      refine Ex_goto (tgt := 45) dX7_fresh_17 (by decide) ?_
      refine Ex_lv [] (lv' := []) rfl ?_
      exact hj36 x42
-- QuorumAlmanacModel$Node.members()I
def m_X7_members (a0 : Nat) : Ms Int32 :=
  bn (ko [16] a0 (m_X7_last a0)) fun r28 =>
  bn (ko [16] a0 (m_X7_old a0 r28)) fun r29 =>
  bn (ko [16] a0 (m_X7_last a0)) fun r30 =>
  bn (ko [16] a0 (m_X7_fresh a0 r30)) fun r31 =>
  rt (r29 ||| r31)
theorem hm_X7_members : (yX7_members.cls ≠ "java/lang/invoke/MethodHandle" ∧ yX7_members.cls ≠ "java/lang/invoke/VarHandle" ∧ (parseMethodDescriptor yX7_members.desc).map (fun d => d.parameters.length) = some 0) := by decide +kernel
set_option maxHeartbeats 4000000 in
set_option maxRecDepth 100000 in
theorem L_X7_members {G : GT} (hG : GOK G) (a0 : Nat) : Cal G yX7_members (ws_ yX7_members cX7_members 1 (Option.some Jvm.ClassFile.FieldType.int)) 8 190 [.ref a0] rI (m_X7_members a0) := by
  refine Cal_of hG (by decide +kernel) (Nat.le_of_ble_eq_true rfl) (lv0 := [(0, .ref a0)]) rfl (fun X σ0 => ?_)
  delta m_X7_members
  refine Ex_aload_n dX7_members_0 rfl 0 rfl ?_
  refine Ex_aload_n dX7_members_1 rfl 0 rfl ?_
  refine Ex_bnI (Inv_V (L_X7_last hG a0) (lw_V q2138 q2139 q2140 q55 q2141) oe_16 ⟨rfl, hm_X7_last⟩ (by decide) (by decide) dX7_members_2 rfl (Nat.le_of_ble_eq_true rfl)) (fun r28 => ?_)
  refine Ex_bnI (Inv_V (L_X7_old hG a0 r28) (lw_V q2142 q2143 q2144 q55 q2145) oe_16 ⟨rfl, hm_X7_old⟩ (by decide) (by decide) dX7_members_5 rfl (Nat.le_of_ble_eq_true rfl)) (fun r29 => ?_)
  refine Ex_aload_n dX7_members_8 rfl 0 rfl ?_
  refine Ex_aload_n dX7_members_9 rfl 0 rfl ?_
  refine Ex_bnI (Inv_V (L_X7_last hG a0) (lw_V q2138 q2139 q2140 q55 q2141) oe_16 ⟨rfl, hm_X7_last⟩ (by decide) (by decide) dX7_members_10 rfl (Nat.le_of_ble_eq_true rfl)) (fun r30 => ?_)
  refine Ex_bnI (Inv_V (L_X7_fresh hG a0 r30) (lw_V q2155 q2156 q2157 q55 q2158) oe_16 ⟨rfl, hm_X7_fresh⟩ (by decide) (by decide) dX7_members_13 rfl (Nat.le_of_ble_eq_true rfl)) (fun r31 => ?_)
  refine Ex_ior dX7_members_16 ?_
  exact Ex_ireturn dX7_members_17 rfl
-- QuorumAlmanacModel$Node.isMember()Z
def m_X7_isMember (a0 : Nat) : Ms Int32 :=
  bn (ko [16] a0 (m_X7_members a0)) fun r24 =>
  gI [16] 54 a0 fun x25 =>
  jn (fun (v26 : Int32) =>
      ck (v26 = 0 ∨ v26 = 1) <|
      rt v26)
    fun j27 =>
    if ¬ ((r24 >>> (x25 &&& 31)) &&& 1) = 1 then
      j27 0
    else
      j27 1
theorem hm_X7_isMember : (yX7_isMember.cls ≠ "java/lang/invoke/MethodHandle" ∧ yX7_isMember.cls ≠ "java/lang/invoke/VarHandle" ∧ (parseMethodDescriptor yX7_isMember.desc).map (fun d => d.parameters.length) = some 0) := by decide +kernel
set_option maxHeartbeats 4000000 in
set_option maxRecDepth 100000 in
theorem L_X7_isMember {G : GT} (hG : GOK G) (a0 : Nat) : Cal G yX7_isMember (ws_ yX7_isMember cX7_isMember 1 (Option.some Jvm.ClassFile.FieldType.boolean)) 9 210 [.ref a0] rI (m_X7_isMember a0) := by
  refine Cal_of hG (by decide +kernel) (Nat.le_of_ble_eq_true rfl) (lv0 := [(0, .ref a0)]) rfl (fun X σ0 => ?_)
  delta m_X7_isMember
  refine Ex_aload_n dX7_isMember_0 rfl 0 rfl ?_
  refine Ex_bnI (Inv_V (L_X7_members hG a0) (lw_V q2134 q2135 q2136 q55 q2137) oe_16 ⟨rfl, hm_X7_members⟩ (by decide) (by decide) dX7_isMember_1 rfl (Nat.le_of_ble_eq_true rfl)) (fun r24 => ?_)
  refine Ex_aload_n dX7_isMember_4 rfl 0 rfl ?_
  refine Ex_gI dX7_isMember_5 lk_X7_53 rfl (fun x25 => ?_)
  refine Ex_ishr dX7_isMember_8 ?_
  refine Ex_iconst (v := 1) dX7_isMember_9 (by decide) ?_
  refine Ex_iand dX7_isMember_10 ?_
  refine Ex_iconst (v := 1) dX7_isMember_11 (by decide) ?_
  refine Ex_jn (γ := Int32) (pj := 20) (fun v26 => []) (fun v26 => [.int v26]) (fun v26 => ?_) (fun j27 hj27 => ?_)
  · refine Ex_ck (fun hz => ?_)
    exact Ex_zreturn dX7_isMember_20 rfl (zok_n hz)
  · refine Ex_icmp_ne (tgt := 19) dX7_isMember_12 (by decide) ?_ ?_
    · refine Ex_iconst (v := 0) dX7_isMember_19 (by decide) ?_
      refine Ex_lv [] (lv' := []) rfl ?_
      exact hj27 0
    · refine Ex_iconst (v := 1) dX7_isMember_15 (by decide) ?_
      refine Ex_goto (tgt := 20) dX7_isMember_16 (by decide) ?_
      refine Ex_lv [] (lv' := []) rfl ?_
      exact hj27 1
-- QuorumAlmanacModel.bits(I)I
def m_X6_bits (x0 : Int32) : Ms Int32 :=
  lp (fun j21 (v20 : Int32 × Int32) =>
      if 5 ≤ v20.2 then
        rt v20.1
      else
        j21 ((v20.1 + ((x0 >>> (v20.2 &&& 31)) &&& 1)), (v20.2 + 1)))
    (0, 0)
theorem hm_X6_bits : (yX6_bits.cls ≠ "java/lang/invoke/MethodHandle" ∧ yX6_bits.cls ≠ "java/lang/invoke/VarHandle" ∧ (parseMethodDescriptor yX6_bits.desc).map (fun d => d.parameters.length) = some 1) := by decide +kernel
set_option maxHeartbeats 4000000 in
set_option maxRecDepth 100000 in
theorem L_X6_bits {G : GT} (hG : GOK G) (x0 : Int32) : Cal G yX6_bits (ws_ yX6_bits cX6_bits 3 (Option.some Jvm.ClassFile.FieldType.int)) 2 60 [.int x0] rI (m_X6_bits x0) := by
  refine Cal_of hG (by decide +kernel) (Nat.le_of_ble_eq_true rfl) (lv0 := [(0, .int x0)]) rfl (fun X σ0 => ?_)
  delta m_X6_bits
  refine Ex_iconst (v := 0) dX6_bits_0 (by decide) ?_
  refine Ex_istore_n (lv' := [(0, .int x0), (1, .int 0)]) dX6_bits_1 rfl (by decide) [1, 0] rfl ?_
  refine Ex_iconst (v := 0) dX6_bits_2 (by decide) ?_
  refine Ex_istore_n (lv' := [(0, .int x0), (1, .int 0), (2, .int 0)]) dX6_bits_3 rfl (by decide) [1, 2, 0] rfl ?_
  refine Ex_lp (γ := Int32 × Int32) (pj := 4) (fun v20 => [(0, .int x0), (1, .int v20.1), (2, .int v20.2)]) (fun v20 => []) (fun j21 hj21 v20 => ?_) (0, 0) rfl rfl
  refine Ex_iload_n dX6_bits_4 rfl 2 rfl ?_
  refine Ex_iconst (v := 5) dX6_bits_5 (by decide) ?_
  refine Ex_icmp_ge (tgt := 23) dX6_bits_6 (by decide) ?_ ?_
  · refine Ex_iload_n dX6_bits_23 rfl 1 rfl ?_
    exact Ex_ireturn dX6_bits_24 rfl
  · refine Ex_iload_n dX6_bits_9 rfl 1 rfl ?_
    refine Ex_iload_n dX6_bits_10 rfl 0 rfl ?_
    refine Ex_iload_n dX6_bits_11 rfl 2 rfl ?_
    refine Ex_ishr dX6_bits_12 ?_
    refine Ex_iconst (v := 1) dX6_bits_13 (by decide) ?_
    refine Ex_iand dX6_bits_14 ?_
    refine Ex_iadd dX6_bits_15 ?_
    refine Ex_istore_n (lv' := [(0, .int x0), (1, .int (v20.1 + ((x0 >>> (v20.2 &&& 31)) &&& 1))), (2, .int v20.2)]) dX6_bits_16 rfl (by decide) [1, 0, 2] rfl ?_
    refine Ex_iinc (j := 2) (lv' := [(0, .int x0), (1, .int (v20.1 + ((x0 >>> (v20.2 &&& 31)) &&& 1))), (2, .int (v20.2 + 1))]) dX6_bits_17 rfl rfl (by decide) [1, 2, 0] rfl ?_
    refine Ex_goto (tgt := 4) dX6_bits_20 (by decide) ?_
    exact hj21 ((v20.1 + ((x0 >>> (v20.2 &&& 31)) &&& 1)), (v20.2 + 1))
-- QuorumAlmanacModel.isMost(II)Z
def m_X6_isMost (x0 : Int32) (x1 : Int32) : Ms Int32 :=
  bn (m_X6_bits (x0 &&& x1)) fun r24 =>
  bn (m_X6_bits x1) fun r25 =>
  jn (fun (v26 : Int32) =>
      ck (v26 = 0 ∨ v26 = 1) <|
      rt v26)
    fun j27 =>
    if (2 * r24) ≤ r25 then
      j27 0
    else
      j27 1
theorem hm_X6_isMost : (yX6_isMost.cls ≠ "java/lang/invoke/MethodHandle" ∧ yX6_isMost.cls ≠ "java/lang/invoke/VarHandle" ∧ (parseMethodDescriptor yX6_isMost.desc).map (fun d => d.parameters.length) = some 2) := by decide +kernel
set_option maxHeartbeats 4000000 in
set_option maxRecDepth 100000 in
theorem L_X6_isMost {G : GT} (hG : GOK G) (x0 : Int32) (x1 : Int32) : Cal G yX6_isMost (ws_ yX6_isMost cX6_isMost 2 (Option.some Jvm.ClassFile.FieldType.boolean)) 3 82 [.int x0, .int x1] rI (m_X6_isMost x0 x1) := by
  refine Cal_of hG (by decide +kernel) (Nat.le_of_ble_eq_true rfl) (lv0 := [(0, .int x0), (1, .int x1)]) rfl (fun X σ0 => ?_)
  delta m_X6_isMost
  refine Ex_iconst (v := 2) dX6_isMost_0 (by decide) ?_
  refine Ex_iload_n dX6_isMost_1 rfl 0 rfl ?_
  refine Ex_iload_n dX6_isMost_2 rfl 1 rfl ?_
  refine Ex_iand dX6_isMost_3 ?_
  refine Ex_bnI (Inv_S (L_X6_bits hG (x0 &&& x1)) (lw_S q2250 q2251 q54 q2252) hm_X6_bits (by decide) (by decide) dX6_isMost_4 rfl (Nat.le_of_ble_eq_true rfl)) (fun r24 => ?_)
  refine Ex_imul dX6_isMost_7 ?_
  refine Ex_iload_n dX6_isMost_8 rfl 1 rfl ?_
  refine Ex_bnI (Inv_S (L_X6_bits hG x1) (lw_S q2250 q2251 q54 q2252) hm_X6_bits (by decide) (by decide) dX6_isMost_9 rfl (Nat.le_of_ble_eq_true rfl)) (fun r25 => ?_)
  refine Ex_jn (γ := Int32) (pj := 20) (fun v26 => []) (fun v26 => [.int v26]) (fun v26 => ?_) (fun j27 hj27 => ?_)
  · refine Ex_ck (fun hz => ?_)
    exact Ex_zreturn dX6_isMost_20 rfl (zok_n hz)
  · refine Ex_icmp_le (tgt := 19) dX6_isMost_12 (by decide) ?_ ?_
    · refine Ex_iconst (v := 0) dX6_isMost_19 (by decide) ?_
      refine Ex_lv [] (lv' := []) rfl ?_
      exact hj27 0
    · refine Ex_iconst (v := 1) dX6_isMost_15 (by decide) ?_
      refine Ex_goto (tgt := 20) dX6_isMost_16 (by decide) ?_
      refine Ex_lv [] (lv' := []) rfl ?_
      exact hj27 1
-- QuorumAlmanacModel$Node.isMajority(I)Z
def m_X7_isMajority (a0 : Nat) (x1 : Int32) : Ms Int32 :=
  bn (ko [16] a0 (m_X7_last a0)) fun r32 =>
  bn (ko [16] a0 (m_X7_fresh a0 r32)) fun r33 =>
  bn (ko [16] a0 (m_X7_last a0)) fun r34 =>
  bn (ko [16] a0 (m_X7_old a0 r34)) fun r35 =>
  bn (m_X6_isMost x1 r35) fun r36 =>
  jn (fun (v37 : Int32) =>
      ck (v37 = 0 ∨ v37 = 1) <|
      rt v37)
    fun j38 =>
    jn (fun (v39 : Unit) =>
        j38 0)
      fun j40 =>
      if r36 = 0 then
        j40 ()
      else
        jn (fun (v41 : Unit) =>
            j38 1)
          fun j42 =>
          if r33 = 0 then
            j42 ()
          else
            bn (m_X6_isMost x1 r33) fun r43 =>
            if r43 = 0 then
              j40 ()
            else
              j42 ()
theorem hm_X7_isMajority : (yX7_isMajority.cls ≠ "java/lang/invoke/MethodHandle" ∧ yX7_isMajority.cls ≠ "java/lang/invoke/VarHandle" ∧ (parseMethodDescriptor yX7_isMajority.desc).map (fun d => d.parameters.length) = some 1) := by decide +kernel
set_option maxHeartbeats 4000000 in
set_option maxRecDepth 100000 in
theorem L_X7_isMajority {G : GT} (hG : GOK G) (a0 : Nat) (x1 : Int32) : Cal G yX7_isMajority (ws_ yX7_isMajority cX7_isMajority 3 (Option.some Jvm.ClassFile.FieldType.boolean)) 8 190 [.ref a0, .int x1] rI (m_X7_isMajority a0 x1) := by
  refine Cal_of hG (by decide +kernel) (Nat.le_of_ble_eq_true rfl) (lv0 := [(0, .ref a0), (1, .int x1)]) rfl (fun X σ0 => ?_)
  delta m_X7_isMajority
  refine Ex_aload_n dX7_isMajority_0 rfl 0 rfl ?_
  refine Ex_aload_n dX7_isMajority_1 rfl 0 rfl ?_
  refine Ex_bnI (Inv_V (L_X7_last hG a0) (lw_V q2138 q2139 q2140 q55 q2141) oe_16 ⟨rfl, hm_X7_last⟩ (by decide) (by decide) dX7_isMajority_2 rfl (Nat.le_of_ble_eq_true rfl)) (fun r32 => ?_)
  refine Ex_bnI (Inv_V (L_X7_fresh hG a0 r32) (lw_V q2155 q2156 q2157 q55 q2158) oe_16 ⟨rfl, hm_X7_fresh⟩ (by decide) (by decide) dX7_isMajority_5 rfl (Nat.le_of_ble_eq_true rfl)) (fun r33 => ?_)
  refine Ex_istore_n (lv' := [(0, .ref a0), (1, .int x1), (2, .int r33)]) dX7_isMajority_8 rfl (by decide) [1, 2, 0] rfl ?_
  refine Ex_iload_n dX7_isMajority_9 rfl 1 rfl ?_
  refine Ex_aload_n dX7_isMajority_10 rfl 0 rfl ?_
  refine Ex_aload_n dX7_isMajority_11 rfl 0 rfl ?_
  refine Ex_bnI (Inv_V (L_X7_last hG a0) (lw_V q2138 q2139 q2140 q55 q2141) oe_16 ⟨rfl, hm_X7_last⟩ (by decide) (by decide) dX7_isMajority_12 rfl (Nat.le_of_ble_eq_true rfl)) (fun r34 => ?_)
  refine Ex_bnI (Inv_V (L_X7_old hG a0 r34) (lw_V q2142 q2143 q2144 q55 q2145) oe_16 ⟨rfl, hm_X7_old⟩ (by decide) (by decide) dX7_isMajority_15 rfl (Nat.le_of_ble_eq_true rfl)) (fun r35 => ?_)
  refine Ex_bnI (Inv_SN (L_X6_isMost hG x1 r35) q54 q2247 q2248 q2249 hm_X6_isMost (by decide) (by decide) dX7_isMajority_18 rfl (Nat.le_of_ble_eq_true rfl)) (fun r36 => ?_)
  refine Ex_jn (γ := Int32) (pj := 41) (fun v37 => []) (fun v37 => [.int v37]) (fun v37 => ?_) (fun j38 hj38 => ?_)
  · refine Ex_ck (fun hz => ?_)
    exact Ex_zreturn dX7_isMajority_41 rfl (zok_n hz)
  · refine Ex_jn (γ := Unit) (pj := 40) (fun v39 => []) (fun v39 => []) (fun v39 => ?_) (fun j40 hj40 => ?_)
    · refine Ex_iconst (v := 0) dX7_isMajority_40 (by decide) ?_
      exact hj38 0
    · refine Ex_if_eq (tgt := 40) dX7_isMajority_21 (by decide) ?_ ?_
      · refine Ex_lv [] (lv' := []) rfl ?_
        exact hj40 ()
      · refine Ex_iload_n dX7_isMajority_24 rfl 2 rfl ?_
        refine Ex_jn (γ := Unit) (pj := 36) (fun v41 => []) (fun v41 => []) (fun v41 => ?_) (fun j42 hj42 => ?_)
        · refine Ex_iconst (v := 1) dX7_isMajority_36 (by decide) ?_
          refine Ex_goto (tgt := 41) dX7_isMajority_37 (by decide) ?_
          exact hj38 1
        · refine Ex_if_eq (tgt := 36) dX7_isMajority_25 (by decide) ?_ ?_
          · refine Ex_lv [] (lv' := []) rfl ?_
            exact hj42 ()
          · refine Ex_iload_n dX7_isMajority_28 rfl 1 rfl ?_
            refine Ex_iload_n dX7_isMajority_29 rfl 2 rfl ?_
            refine Ex_bnI (Inv_SN (L_X6_isMost hG x1 r33) q54 q2247 q2248 q2249 hm_X6_isMost (by decide) (by decide) dX7_isMajority_30 rfl (Nat.le_of_ble_eq_true rfl)) (fun r43 => ?_)
            refine Ex_if_eq (tgt := 40) dX7_isMajority_33 (by decide) ?_ ?_
            · refine Ex_lv [] (lv' := []) rfl ?_
              exact hj40 ()
            · refine Ex_lv [] (lv' := []) rfl ?_
              exact hj42 ()
-- QuorumAlmanacModel.comes(LQuorumAlmanacModel$Message;)V
def m_X6_comes (a0 : Nat) (a1 : Nat) : Ms Unit :=
  gI [15] 51 a0 fun x34 =>
  pV [15] 51 a0 (.int (x34 + 1)) <|
  gR [15] 129 a0 fun x35 =>
  bn (ko [22] x35 (m_J2_add x35 a1)) fun r36 =>
  gR [15] 129 a0 fun x37 =>
  bn (ko [22] x37 (m_J2_size x37)) fun r38 =>
  jn (fun (v39 : Unit) =>
      rt ())
    fun j40 =>
    if r38 ≤ 60 then
      j40 ()
    else
      gR [15] 129 a0 fun x41 =>
      bn (ko [22] x41 (m_J2_remove x41 0)) fun r42 =>
      ko [19] r42 <|
      j40 ()
theorem hm_X6_comes : (yX6_comes.cls ≠ "java/lang/invoke/MethodHandle" ∧ yX6_comes.cls ≠ "java/lang/invoke/VarHandle" ∧ (parseMethodDescriptor yX6_comes.desc).map (fun d => d.parameters.length) = some 1) := by decide +kernel
set_option maxHeartbeats 4000000 in
set_option maxRecDepth 100000 in
theorem L_X6_comes {G : GT} (hG : GOK G) (a0 : Nat) (a1 : Nat) : Cal G yX6_comes (ws_ yX6_comes cX6_comes 4 (Option.none : Option Jvm.ClassFile.FieldType)) 8 191 [.ref a0, .ref a1] rU (m_X6_comes a0 a1) := by
  refine Cal_of hG (by decide +kernel) (Nat.le_of_ble_eq_true rfl) (lv0 := [(0, .ref a0), (1, .ref a1)]) rfl (fun X σ0 => ?_)
  delta m_X6_comes
  refine Ex_aload_n dX6_comes_0 rfl 0 rfl ?_
  refine Ex_dup rfl dX6_comes_1 ?_
  refine Ex_gI dX6_comes_2 lk_X6_57 rfl (fun x34 => ?_)
  refine Ex_iconst (v := 1) dX6_comes_5 (by decide) ?_
  refine Ex_iadd dX6_comes_6 ?_
  refine Ex_pV dX6_comes_7 lk_X6_57 rfl rfl rfl rfl ?_
  refine Ex_aload_n dX6_comes_10 rfl 0 rfl ?_
  refine Ex_gR dX6_comes_11 lk_X6_22 rfl (fun x35 => ?_)
  refine Ex_aload_n dX6_comes_14 rfl 1 rfl ?_
  refine Ex_bnI (Inv_V (L_J2_add hG x35 a1) (lw_V q2228 q935 q936 q48 q937) oe_22 ⟨rfl, hm_J2_add⟩ (by decide) (by decide) dX6_comes_15 rfl (Nat.le_of_ble_eq_true rfl)) (fun r36 => ?_)
  refine Ex_istore_n (lv' := [(0, .ref a0), (1, .ref a1), (2, .int r36)]) dX6_comes_18 rfl (by decide) [1, 2, 0] rfl ?_
  refine Ex_aload_n dX6_comes_19 rfl 0 rfl ?_
  refine Ex_gR dX6_comes_20 lk_X6_22 rfl (fun x37 => ?_)
  refine Ex_bnI (Inv_V (L_J2_size hG x37) (lw_V q2229 q112 q113 q48 q114) oe_22 ⟨rfl, hm_J2_size⟩ (by decide) (by decide) dX6_comes_23 rfl (Nat.le_of_ble_eq_true rfl)) (fun r38 => ?_)
  refine Ex_bipush (v := 60) dX6_comes_26 (by decide) ?_
  refine Ex_jn (γ := Unit) (pj := 43) (fun v39 => []) (fun v39 => []) (fun v39 => ?_) (fun j40 hj40 => ?_)
  · exact Ex_vreturn dX6_comes_43 rfl
  · refine Ex_icmp_le (tgt := 43) dX6_comes_28 (by decide) ?_ ?_
    · refine Ex_lv [] (lv' := []) rfl ?_
      exact hj40 ()
    · refine Ex_aload_n dX6_comes_31 rfl 0 rfl ?_
      refine Ex_gR dX6_comes_32 lk_X6_22 rfl (fun x41 => ?_)
      refine Ex_iconst (v := 0) dX6_comes_35 (by decide) ?_
      refine Ex_bnR (Inv_V (L_J2_remove hG x41 0) (lw_V q2230 q1086 q1087 q48 q1088) oe_22 ⟨rfl, hm_J2_remove⟩ (by decide) (by decide) dX6_comes_36 rfl (Nat.le_of_ble_eq_true rfl)) (fun r42 => ?_)
      refine Ex_ko dX6_comes_39 q2167 oc_QuorumAlmanacModel_Message_19 ?_
      refine Ex_astore_n (lv' := [(0, .ref a0), (1, .ref a1), (2, .int r36), (3, .ref r42)]) dX6_comes_42 rfl (by decide) [1, 2, 3, 0] rfl ?_
      refine Ex_lv [] (lv' := []) rfl ?_
      exact hj40 ()
-- QuorumAlmanacModel.send(CII)LQuorumAlmanacModel$Message;
def m_X6_send (a0 : Nat) (x1 : Int32) (x2 : Int32) (x3 : Int32) : Ms Nat :=
  nO 19 12 dfl fun a26 =>
  gI [15] 51 a0 fun x27 =>
  bn (m_X16_init a26 x27 x1 x2 x3) fun _ =>
  bn (ko [15] a0 (m_X6_comes a0 a26)) fun _ =>
  gI [15] 52 a0 fun x28 =>
  pV [15] 52 a0 (.int (x28 + 1)) <|
  rt a26
theorem hm_X6_send : (yX6_send.cls ≠ "java/lang/invoke/MethodHandle" ∧ yX6_send.cls ≠ "java/lang/invoke/VarHandle" ∧ (parseMethodDescriptor yX6_send.desc).map (fun d => d.parameters.length) = some 3) := by decide +kernel
set_option maxHeartbeats 4000000 in
set_option maxRecDepth 100000 in
theorem L_X6_send {G : GT} (hG : GOK G) (a0 : Nat) (x1 : Int32) (x2 : Int32) (x3 : Int32) : Cal G yX6_send (ws_ yX6_send cX6_send 5 (Option.some (Jvm.ClassFile.FieldType.object "QuorumAlmanacModel$Message"))) 9 214 [.ref a0, .int x1, .int x2, .int x3] rR (m_X6_send a0 x1 x2 x3) := by
  refine Cal_of hG (by decide +kernel) (Nat.le_of_ble_eq_true rfl) (lv0 := [(0, .ref a0), (1, .int x1), (2, .int x2), (3, .int x3)]) rfl (fun X σ0 => ?_)
  delta m_X6_send
  refine Ex_nO (ci := 18) (q := qcl 18) dX6_send_0 rfl q2167 q2168 q81 (fun a26 => ?_)
  refine Ex_dup rfl dX6_send_3 ?_
  refine Ex_aload_n dX6_send_4 rfl 0 rfl ?_
  refine Ex_gI dX6_send_5 lk_X6_57 rfl (fun x27 => ?_)
  refine Ex_iload_n dX6_send_8 rfl 1 rfl ?_
  refine Ex_iload_n dX6_send_9 rfl 2 rfl ?_
  refine Ex_iload_n dX6_send_10 rfl 3 rfl ?_
  refine Ex_bnU (Inv_I (L_X16_init hG a26 x27 x1 x2 x3) q81 q2169 q2170 q2171 rfl hm_X16_init (by decide) (by decide) dX6_send_11 rfl (Nat.le_of_ble_eq_true rfl)) (fun _ => ?_)
  refine Ex_astore (lv' := [(0, .ref a0), (1, .int x1), (2, .int x2), (3, .int x3), (4, .ref a26)]) dX6_send_14 (by decide) [1, 2, 3, 4, 0] rfl ?_
  refine Ex_aload_n dX6_send_16 rfl 0 rfl ?_
  refine Ex_aload dX6_send_17 4 rfl ?_
  refine Ex_bnU (Inv_V (L_X6_comes hG a0 a26) (lw_V q2224 q2226 qs36 q54 q2227) oe_15 ⟨rfl, hm_X6_comes⟩ (by decide) (by decide) dX6_send_19 rfl (Nat.le_of_ble_eq_true rfl)) (fun _ => ?_)
  refine Ex_aload_n dX6_send_22 rfl 0 rfl ?_
  refine Ex_dup rfl dX6_send_23 ?_
  refine Ex_gI dX6_send_24 lk_X6_67 rfl (fun x28 => ?_)
  refine Ex_iconst (v := 1) dX6_send_27 (by decide) ?_
  refine Ex_iadd dX6_send_28 ?_
  refine Ex_pV dX6_send_29 lk_X6_67 rfl rfl rfl rfl ?_
  refine Ex_aload dX6_send_32 4 rfl ?_
  exact Ex_areturn dX6_send_34 rfl (Or.inl ⟨_, rfl⟩)
-- QuorumAlmanacModel$Node.termAt(I)I
def m_X7_termAt (a0 : Nat) (x1 : Int32) : Ms Int32 :=
  gR [16] 132 a0 fun x32 =>
  gI [17] 68 x32 fun x33 =>
  jn (fun (v34 : Int32) =>
      rt v34)
    fun j35 =>
    if ¬ x1 = x33 then
      bn (ko [16] a0 (m_X7_entry a0 x1)) fun r36 =>
      gI [20] 82 r36 fun x37 =>
      j35 x37
    else
      gR [16] 132 a0 fun x38 =>
      gI [17] 69 x38 fun x39 =>
      j35 x39
theorem hm_X7_termAt : (yX7_termAt.cls ≠ "java/lang/invoke/MethodHandle" ∧ yX7_termAt.cls ≠ "java/lang/invoke/VarHandle" ∧ (parseMethodDescriptor yX7_termAt.desc).map (fun d => d.parameters.length) = some 1) := by decide +kernel
set_option maxHeartbeats 4000000 in
set_option maxRecDepth 100000 in
theorem L_X7_termAt {G : GT} (hG : GOK G) (a0 : Nat) (x1 : Int32) : Cal G yX7_termAt (ws_ yX7_termAt cX7_termAt 2 (Option.some Jvm.ClassFile.FieldType.int)) 6 145 [.ref a0, .int x1] rI (m_X7_termAt a0 x1) := by
  refine Cal_of hG (by decide +kernel) (Nat.le_of_ble_eq_true rfl) (lv0 := [(0, .ref a0), (1, .int x1)]) rfl (fun X σ0 => ?_)
  delta m_X7_termAt
  refine Ex_iload_n dX7_termAt_0 rfl 1 rfl ?_
  refine Ex_aload_n dX7_termAt_1 rfl 0 rfl ?_
  refine Ex_gR dX7_termAt_2 lk_X7_64 rfl (fun x32 => ?_)
  refine Ex_gI dX7_termAt_5 lk_X7_72 rfl (fun x33 => ?_)
  refine Ex_jn (γ := Int32) (pj := 29) (fun v34 => []) (fun v34 => [.int v34]) (fun v34 => ?_) (fun j35 hj35 => ?_)
  · exact Ex_ireturn dX7_termAt_29 rfl
  · refine Ex_icmp_ne (tgt := 21) dX7_termAt_8 (by decide) ?_ ?_
    · refine Ex_aload_n dX7_termAt_21 rfl 0 rfl ?_
      refine Ex_iload_n dX7_termAt_22 rfl 1 rfl ?_
      refine Ex_bnR (Inv_V (L_X7_entry hG a0 x1) (lw_V q2150 q2151 q2152 q55 q2153) oe_16 ⟨rfl, hm_X7_entry⟩ (by decide) (by decide) dX7_termAt_23 rfl (Nat.le_of_ble_eq_true rfl)) (fun r36 => ?_)
      refine Ex_gI dX7_termAt_26 lk_X7_95 rfl (fun x37 => ?_)
      refine Ex_lv [] (lv' := []) rfl ?_
      exact hj35 x37
    · refine Ex_aload_n dX7_termAt_11 rfl 0 rfl ?_
      refine Ex_gR dX7_termAt_12 lk_X7_64 rfl (fun x38 => ?_)
      refine Ex_gI dX7_termAt_15 lk_X7_88 rfl (fun x39 => ?_)
      refine Ex_goto (tgt := 29) dX7_termAt_18 (by decide) ?_
      refine Ex_lv [] (lv' := []) rfl ?_
      exact hj35 x39
-- QuorumAlmanacModel$Node.sends(I)V
def m_X7_sends (a0 : Nat) (x1 : Int32) : Ms Unit :=
  gR [16] 135 a0 fun x72 =>
  aI 30 x72 x1 fun x73 =>
  gR [16] 132 a0 fun x74 =>
  gI [17] 68 x74 fun x75 =>
  jn (fun (v76 : Int32) =>
      gR [16] 139 a0 fun x78 =>
      jn (fun (v79 : Int32 × Nat) =>
          gI [16] 54 a0 fun x81 =>
          bn (ko [15] v79.2 (m_X6_send v79.2 v79.1 x81 x1)) fun r82 =>
          gI [16] 56 a0 fun x83 =>
          pV [19] 76 r82 (.int x83) <|
          gR [16] 138 a0 fun x84 =>
          bn (ko [22] x84 (m_J2_size x84)) fun r85 =>
          pV [19] 77 r82 (.int r85) <|
          if v76 = 0 then
            gR [16] 135 a0 fun x86 =>
            aI 30 x86 x1 fun x87 =>
            pV [19] 78 r82 (.int (x87 - 1)) <|
            gR [16] 135 a0 fun x88 =>
            aI 30 x88 x1 fun x89 =>
            bn (ko [16] a0 (m_X7_termAt a0 (x89 - 1))) fun r90 =>
            pV [19] 79 r82 (.int r90) <|
            gI [16] 61 a0 fun x91 =>
            pV [19] 81 r82 (.int x91) <|
            nO 22 3 dfl fun a92 =>
            bn (m_J2_init a92) fun _ =>
            pV [19] 143 r82 (.ref a92) <|
            gR [16] 135 a0 fun x93 =>
            aI 30 x93 x1 fun x94 =>
            lp (fun j96 (v95 : Int32) =>
                bn (ko [16] a0 (m_X7_last a0)) fun r97 =>
                jn (fun (v98 : Unit) =>
                    rt ())
                  fun j99 =>
                  if r97 < v95 then
                    j99 ()
                  else
                    gR [16] 135 a0 fun x100 =>
                    aI 30 x100 x1 fun x101 =>
                    if (x101 + 4) ≤ v95 then
                      j99 ()
                    else
                      gR [19] 143 r82 fun x102 =>
                      bn (ko [16] a0 (m_X7_entry a0 v95)) fun r103 =>
                      bn (ko [22] x102 (m_J2_add x102 r103)) fun r104 =>
                      j96 (v95 + 1))
              x94
          else
            gR [16] 132 a0 fun x105 =>
            pV [19] 144 r82 (.ref x105) <|
            rt ())
        fun j80 =>
        if v76 = 0 then
          j80 (97, x78)
        else
          j80 (115, x78))
    fun j77 =>
    if x75 < x73 then
      j77 0
    else
      j77 1
theorem hm_X7_sends : (yX7_sends.cls ≠ "java/lang/invoke/MethodHandle" ∧ yX7_sends.cls ≠ "java/lang/invoke/VarHandle" ∧ (parseMethodDescriptor yX7_sends.desc).map (fun d => d.parameters.length) = some 1) := by decide +kernel
set_option maxHeartbeats 4000000 in
set_option maxRecDepth 100000 in
theorem L_X7_sends {G : GT} (hG : GOK G) (a0 : Nat) (x1 : Int32) : Cal G yX7_sends (ws_ yX7_sends cX7_sends 6 (Option.none : Option Jvm.ClassFile.FieldType)) 10 238 [.ref a0, .int x1] rU (m_X7_sends a0 x1) := by
  refine Cal_of hG (by decide +kernel) (Nat.le_of_ble_eq_true rfl) (lv0 := [(0, .ref a0), (1, .int x1)]) rfl (fun X σ0 => ?_)
  delta m_X7_sends
  refine Ex_aload_n dX7_sends_0 rfl 0 rfl ?_
  refine Ex_gR dX7_sends_1 lk_X7_40 rfl (fun x72 => ?_)
  refine Ex_iload_n dX7_sends_4 rfl 1 rfl ?_
  refine Ex_aI_i dX7_sends_5 (fun x73 => ?_)
  refine Ex_aload_n dX7_sends_6 rfl 0 rfl ?_
  refine Ex_gR dX7_sends_7 lk_X7_64 rfl (fun x74 => ?_)
  refine Ex_gI dX7_sends_10 lk_X7_72 rfl (fun x75 => ?_)
  refine Ex_jn (γ := Int32) (pj := 21) (fun v76 => [(0, .ref a0), (1, .int x1)]) (fun v76 => [.int v76]) (fun v76 => ?_) (fun j77 hj77 => ?_)
  · refine Ex_istore_n (lv' := [(0, .ref a0), (1, .int x1), (2, .int v76)]) dX7_sends_21 rfl (by decide) [1, 2, 0] rfl ?_
    refine Ex_aload_n dX7_sends_22 rfl 0 rfl ?_
    refine Ex_gR dX7_sends_23 lk_X7_3 rfl (fun x78 => ?_)
    refine Ex_iload_n dX7_sends_26 rfl 2 rfl ?_
    refine Ex_jn (γ := Int32 × Nat) (pj := 37) (fun v79 => [(0, .ref a0), (1, .int x1), (2, .int v76)]) (fun v79 => [.int v79.1, .ref v79.2]) (fun v79 => ?_) (fun j80 hj80 => ?_)
    · refine Ex_aload_n dX7_sends_37 rfl 0 rfl ?_
      refine Ex_gI dX7_sends_38 lk_X7_53 rfl (fun x81 => ?_)
      refine Ex_iload_n dX7_sends_41 rfl 1 rfl ?_
      refine Ex_bnR (Inv_VN (L_X6_send hG v79.2 v79.1 x81 x1) q54 q2163 q2165 q2166 qs35 oe_15 hm_X6_send (by decide) (by decide) dX7_sends_42 rfl (Nat.le_of_ble_eq_true rfl)) (fun r82 => ?_)
      refine Ex_astore_n (lv' := [(0, .ref a0), (1, .int x1), (2, .int v76), (3, .ref r82)]) dX7_sends_45 rfl (by decide) [1, 2, 3, 0] rfl ?_
      refine Ex_aload_n dX7_sends_46 rfl 3 rfl ?_
      refine Ex_aload_n dX7_sends_47 rfl 0 rfl ?_
      refine Ex_gI dX7_sends_48 lk_X7_126 rfl (fun x83 => ?_)
      refine Ex_pV dX7_sends_51 lk_X7_184 rfl rfl rfl rfl ?_
      refine Ex_aload_n dX7_sends_54 rfl 3 rfl ?_
      refine Ex_aload_n dX7_sends_55 rfl 0 rfl ?_
      refine Ex_gR dX7_sends_56 lk_X7_50 rfl (fun x84 => ?_)
      refine Ex_bnI (Inv_V (L_J2_size hG x84) (lw_V q2124 q112 q113 q48 q114) oe_22 ⟨rfl, hm_J2_size⟩ (by decide) (by decide) dX7_sends_59 rfl (Nat.le_of_ble_eq_true rfl)) (fun r85 => ?_)
      refine Ex_pV dX7_sends_62 lk_X7_216 rfl rfl rfl rfl ?_
      refine Ex_iload_n dX7_sends_65 rfl 2 rfl ?_
      refine Ex_if_eq (tgt := 78) dX7_sends_66 (by decide) ?_ ?_
      · refine Ex_aload_n dX7_sends_78 rfl 3 rfl ?_
        refine Ex_aload_n dX7_sends_79 rfl 0 rfl ?_
        refine Ex_gR dX7_sends_80 lk_X7_40 rfl (fun x86 => ?_)
        refine Ex_iload_n dX7_sends_83 rfl 1 rfl ?_
        refine Ex_aI_i dX7_sends_84 (fun x87 => ?_)
        refine Ex_iconst (v := 1) dX7_sends_85 (by decide) ?_
        refine Ex_isub dX7_sends_86 ?_
        refine Ex_pV dX7_sends_87 lk_X7_187 rfl rfl rfl rfl ?_
        refine Ex_aload_n dX7_sends_90 rfl 3 rfl ?_
        refine Ex_aload_n dX7_sends_91 rfl 0 rfl ?_
        refine Ex_aload_n dX7_sends_92 rfl 0 rfl ?_
        refine Ex_gR dX7_sends_93 lk_X7_40 rfl (fun x88 => ?_)
        refine Ex_iload_n dX7_sends_96 rfl 1 rfl ?_
        refine Ex_aI_i dX7_sends_97 (fun x89 => ?_)
        refine Ex_iconst (v := 1) dX7_sends_98 (by decide) ?_
        refine Ex_isub dX7_sends_99 ?_
        refine Ex_bnI (Inv_V (L_X7_termAt hG a0 (x89 - 1)) (lw_V q2231 q2232 q2233 q55 q2234) oe_16 ⟨rfl, hm_X7_termAt⟩ (by decide) (by decide) dX7_sends_100 rfl (Nat.le_of_ble_eq_true rfl)) (fun r90 => ?_)
        refine Ex_pV dX7_sends_103 lk_X7_191 rfl rfl rfl rfl ?_
        refine Ex_aload_n dX7_sends_106 rfl 3 rfl ?_
        refine Ex_aload_n dX7_sends_107 rfl 0 rfl ?_
        refine Ex_gI dX7_sends_108 lk_X7_220 rfl (fun x91 => ?_)
        refine Ex_pV dX7_sends_111 lk_X7_223 rfl rfl rfl rfl ?_
        refine Ex_aload_n dX7_sends_114 rfl 3 rfl ?_
        refine Ex_nO (ci := 21) (q := qcl 21) dX7_sends_115 rfl q1945 q120 q48 (fun a92 => ?_)
        refine Ex_dup rfl dX7_sends_118 ?_
        refine Ex_bnU (Inv_I (L_J2_init hG a92) q48 q1946 q122 q123 rfl hm_J2_init (by decide) (by decide) dX7_sends_119 rfl (Nat.le_of_ble_eq_true rfl)) (fun _ => ?_)
        refine Ex_pV dX7_sends_122 lk_X7_226 rfl rfl rfl rfl ?_
        refine Ex_aload_n dX7_sends_125 rfl 0 rfl ?_
        refine Ex_gR dX7_sends_126 lk_X7_40 rfl (fun x93 => ?_)
        refine Ex_iload_n dX7_sends_129 rfl 1 rfl ?_
        refine Ex_aI_i dX7_sends_130 (fun x94 => ?_)
        refine Ex_istore (lv' := [(0, .ref a0), (1, .int x1), (2, .int v76), (3, .ref r82), (4, .int x94)]) dX7_sends_131 (by decide) [1, 2, 3, 4, 0] rfl ?_
        refine Ex_lv [0, 1, 3, 4] (lv' := [(0, .ref a0), (1, .int x1), (3, .ref r82), (4, .int x94)]) rfl ?_
        refine Ex_lp (γ := Int32) (pj := 133) (fun v95 => [(0, .ref a0), (1, .int x1), (3, .ref r82), (4, .int v95)]) (fun v95 => []) (fun j96 hj96 v95 => ?_) x94 rfl rfl
        refine Ex_iload dX7_sends_133 3 rfl ?_
        refine Ex_aload_n dX7_sends_135 rfl 0 rfl ?_
        refine Ex_bnI (Inv_V (L_X7_last hG a0) (lw_V q2138 q2139 q2140 q55 q2141) oe_16 ⟨rfl, hm_X7_last⟩ (by decide) (by decide) dX7_sends_136 rfl (Nat.le_of_ble_eq_true rfl)) (fun r97 => ?_)
        refine Ex_jn (γ := Unit) (pj := 176) (fun v98 => []) (fun v98 => []) (fun v98 => ?_) (fun j99 hj99 => ?_)
        · exact Ex_vreturn dX7_sends_176 rfl
        · refine Ex_icmp_gt (tgt := 176) dX7_sends_139 (by decide) ?_ ?_
          · refine Ex_lv [] (lv' := []) rfl ?_
            exact hj99 ()
          · refine Ex_iload dX7_sends_142 3 rfl ?_
            refine Ex_aload_n dX7_sends_144 rfl 0 rfl ?_
            refine Ex_gR dX7_sends_145 lk_X7_40 rfl (fun x100 => ?_)
            refine Ex_iload_n dX7_sends_148 rfl 1 rfl ?_
            refine Ex_aI_i dX7_sends_149 (fun x101 => ?_)
            refine Ex_iconst (v := 4) dX7_sends_150 (by decide) ?_
            refine Ex_iadd dX7_sends_151 ?_
            refine Ex_icmp_ge (tgt := 176) dX7_sends_152 (by decide) ?_ ?_
            · refine Ex_lv [] (lv' := []) rfl ?_
              exact hj99 ()
            · refine Ex_aload_n dX7_sends_155 rfl 2 rfl ?_
              refine Ex_gR dX7_sends_156 lk_X7_226 rfl (fun x102 => ?_)
              refine Ex_aload_n dX7_sends_159 rfl 0 rfl ?_
              refine Ex_iload dX7_sends_160 3 rfl ?_
              refine Ex_bnR (Inv_V (L_X7_entry hG a0 v95) (lw_V q2150 q2151 q2152 q55 q2153) oe_16 ⟨rfl, hm_X7_entry⟩ (by decide) (by decide) dX7_sends_162 rfl (Nat.le_of_ble_eq_true rfl)) (fun r103 => ?_)
              refine Ex_bnI (Inv_V (L_J2_add hG x102 r103) (lw_V q2133 q935 q936 q48 q937) oe_22 ⟨rfl, hm_J2_add⟩ (by decide) (by decide) dX7_sends_165 rfl (Nat.le_of_ble_eq_true rfl)) (fun r104 => ?_)
              refine Ex_istore (lv' := [(0, .ref a0), (1, .int x1), (3, .ref r82), (4, .int v95), (5, .int r104)]) dX7_sends_168 (by decide) [1, 2, 3, 4, 0] rfl ?_
              refine Ex_iinc (j := 3) (lv' := [(0, .ref a0), (1, .int x1), (3, .ref r82), (4, .int (v95 + 1)), (5, .int r104)]) dX7_sends_170 rfl rfl (by decide) [1, 2, 3, 0, 4] rfl ?_
              refine Ex_goto (tgt := 133) dX7_sends_173 (by decide) ?_
              refine Ex_lv [0, 1, 2, 3] (lv' := [(0, .ref a0), (1, .int x1), (3, .ref r82), (4, .int (v95 + 1))]) rfl ?_
              exact hj96 (v95 + 1)
      · refine Ex_aload_n dX7_sends_69 rfl 3 rfl ?_
        refine Ex_aload_n dX7_sends_70 rfl 0 rfl ?_
        refine Ex_gR dX7_sends_71 lk_X7_64 rfl (fun x105 => ?_)
        refine Ex_pV dX7_sends_74 lk_X7_219 rfl rfl rfl rfl ?_
        exact Ex_vreturn dX7_sends_77 rfl
    · refine Ex_if_eq (tgt := 35) dX7_sends_27 (by decide) ?_ ?_
      · refine Ex_bipush (v := 97) dX7_sends_35 (by decide) ?_
        exact hj80 (97, x78)
      · refine Ex_bipush (v := 115) dX7_sends_30 (by decide) ?_
        refine Ex_goto (tgt := 37) dX7_sends_32 (by decide) ?_
        exact hj80 (115, x78)
  · refine Ex_icmp_gt (tgt := 20) dX7_sends_13 (by decide) ?_ ?_
    · refine Ex_iconst (v := 0) dX7_sends_20 (by decide) ?_
      exact hj77 0
    · refine Ex_iconst (v := 1) dX7_sends_16 (by decide) ?_
      refine Ex_goto (tgt := 21) dX7_sends_17 (by decide) ?_
      exact hj77 1
-- QuorumAlmanacModel$Node.beginsRound()V
def m_X7_beginsRound (a0 : Nat) : Ms Unit :=
  gR [16] 138 a0 fun x32 =>
  gI [16] 55 a0 fun x33 =>
  bn (m_J14_valueOf x33) fun r34 =>
  bn (ko [22] x32 (m_J2_add x32 r34)) fun r35 =>
  lp (fun j37 (v36 : Int32) =>
      if 5 ≤ v36 then
        rt ()
      else
        gI [16] 54 a0 fun x38 =>
        jn (fun (v39 : Unit) =>
            j37 (v36 + 1))
          fun j40 =>
          if v36 = x38 then
            j40 ()
          else
            bn (ko [16] a0 (m_X7_members a0)) fun r41 =>
            if ¬ ((r41 >>> (v36 &&& 31)) &&& 1) = 1 then
              j40 ()
            else
              bn (ko [16] a0 (m_X7_sends a0 v36)) fun _ =>
              j40 ())
    0
theorem hm_X7_beginsRound : (yX7_beginsRound.cls ≠ "java/lang/invoke/MethodHandle" ∧ yX7_beginsRound.cls ≠ "java/lang/invoke/VarHandle" ∧ (parseMethodDescriptor yX7_beginsRound.desc).map (fun d => d.parameters.length) = some 0) := by decide +kernel
set_option maxHeartbeats 4000000 in
set_option maxRecDepth 100000 in
theorem L_X7_beginsRound {G : GT} (hG : GOK G) (a0 : Nat) : Cal G yX7_beginsRound (ws_ yX7_beginsRound cX7_beginsRound 3 (Option.none : Option Jvm.ClassFile.FieldType)) 11 263 [.ref a0] rU (m_X7_beginsRound a0) := by
  refine Cal_of hG (by decide +kernel) (Nat.le_of_ble_eq_true rfl) (lv0 := [(0, .ref a0)]) rfl (fun X σ0 => ?_)
  delta m_X7_beginsRound
  refine Ex_aload_n dX7_beginsRound_0 rfl 0 rfl ?_
  refine Ex_gR dX7_beginsRound_1 lk_X7_50 rfl (fun x32 => ?_)
  refine Ex_aload_n dX7_beginsRound_4 rfl 0 rfl ?_
  refine Ex_gI dX7_beginsRound_5 lk_X7_160 rfl (fun x33 => ?_)
  refine Ex_bnR (Inv_S (L_J14_valueOf hG x33) (lw_S q2132 q749 q68 q750) hm_J14_valueOf (by decide) (by decide) dX7_beginsRound_8 rfl (Nat.le_of_ble_eq_true rfl)) (fun r34 => ?_)
  refine Ex_bnI (Inv_V (L_J2_add hG x32 r34) (lw_V q2133 q935 q936 q48 q937) oe_22 ⟨rfl, hm_J2_add⟩ (by decide) (by decide) dX7_beginsRound_11 rfl (Nat.le_of_ble_eq_true rfl)) (fun r35 => ?_)
  refine Ex_istore_n (lv' := [(0, .ref a0), (1, .int r35)]) dX7_beginsRound_14 rfl (by decide) [1, 0] rfl ?_
  refine Ex_iconst (v := 0) dX7_beginsRound_15 (by decide) ?_
  refine Ex_istore_n (lv' := [(0, .ref a0), (1, .int r35), (2, .int 0)]) dX7_beginsRound_16 rfl (by decide) [1, 2, 0] rfl ?_
  refine Ex_lv [0, 2] (lv' := [(0, .ref a0), (2, .int 0)]) rfl ?_
  refine Ex_lp (γ := Int32) (pj := 17) (fun v36 => [(0, .ref a0), (2, .int v36)]) (fun v36 => []) (fun j37 hj37 v36 => ?_) 0 rfl rfl
  refine Ex_iload_n dX7_beginsRound_17 rfl 1 rfl ?_
  refine Ex_iconst (v := 5) dX7_beginsRound_18 (by decide) ?_
  refine Ex_icmp_ge (tgt := 53) dX7_beginsRound_19 (by decide) ?_ ?_
  · exact Ex_vreturn dX7_beginsRound_53 rfl
  · refine Ex_iload_n dX7_beginsRound_22 rfl 1 rfl ?_
    refine Ex_aload_n dX7_beginsRound_23 rfl 0 rfl ?_
    refine Ex_gI dX7_beginsRound_24 lk_X7_53 rfl (fun x38 => ?_)
    refine Ex_jn (γ := Unit) (pj := 47) (fun v39 => [(0, .ref a0), (2, .int v36)]) (fun v39 => []) (fun v39 => ?_) (fun j40 hj40 => ?_)
    · refine Ex_iinc (j := 1) (lv' := [(0, .ref a0), (2, .int (v36 + 1))]) dX7_beginsRound_47 rfl rfl (by decide) [1, 0] rfl ?_
      refine Ex_goto (tgt := 17) dX7_beginsRound_50 (by decide) ?_
      exact hj37 (v36 + 1)
    · refine Ex_icmp_eq (tgt := 47) dX7_beginsRound_27 (by decide) ?_ ?_
      · exact hj40 ()
      · refine Ex_aload_n dX7_beginsRound_30 rfl 0 rfl ?_
        refine Ex_bnI (Inv_V (L_X7_members hG a0) (lw_V q2134 q2135 q2136 q55 q2137) oe_16 ⟨rfl, hm_X7_members⟩ (by decide) (by decide) dX7_beginsRound_31 rfl (Nat.le_of_ble_eq_true rfl)) (fun r41 => ?_)
        refine Ex_iload_n dX7_beginsRound_34 rfl 1 rfl ?_
        refine Ex_ishr dX7_beginsRound_35 ?_
        refine Ex_iconst (v := 1) dX7_beginsRound_36 (by decide) ?_
        refine Ex_iand dX7_beginsRound_37 ?_
        refine Ex_iconst (v := 1) dX7_beginsRound_38 (by decide) ?_
        refine Ex_icmp_ne (tgt := 47) dX7_beginsRound_39 (by decide) ?_ ?_
        · exact hj40 ()
        · refine Ex_aload_n dX7_beginsRound_42 rfl 0 rfl ?_
          refine Ex_iload_n dX7_beginsRound_43 rfl 1 rfl ?_
          refine Ex_bnU (Inv_V (L_X7_sends hG a0 v36) (lw_V q2159 q2160 q2161 q55 q2162) oe_16 ⟨rfl, hm_X7_sends⟩ (by decide) (by decide) dX7_beginsRound_44 rfl (Nat.le_of_ble_eq_true rfl)) (fun _ => ?_)
          exact hj40 ()
-- QuorumAlmanacModel$Node.wins()V
def m_X7_wins (a0 : Nat) : Ms Unit :=
  gI [16] 58 a0 fun x46 =>
  jn (fun (v47 : Unit) =>
      rt ())
    fun j48 =>
    if ¬ x46 = 99 then
      j48 ()
    else
      gI [16] 67 a0 fun x49 =>
      bn (ko [16] a0 (m_X7_isMajority a0 x49)) fun r50 =>
      if ¬ r50 = 0 then
        pV [16] 58 a0 (.int 108) <|
        nO 22 3 dfl fun a51 =>
        bn (m_J2_init a51) fun _ =>
        pV [16] 138 a0 (.ref a51) <|
        lp (fun j53 (v52 : Int32) =>
            if 5 ≤ v52 then
              bn (ko [16] a0 (m_X7_last a0)) fun r54 =>
              jn (fun (v55 : Unit) =>
                  bn (ko [16] a0 (m_X7_beginsRound a0)) fun _ =>
                  rt ())
                fun j56 =>
                if 80 ≤ r54 then
                  j56 ()
                else
                  gR [16] 133 a0 fun x57 =>
                  nO 20 4 dfl fun a58 =>
                  gI [16] 56 a0 fun x59 =>
                  bn (m_X17_init a58 x59 111 0 0) fun _ =>
                  bn (ko [22] x57 (m_J2_add x57 a58)) fun r60 =>
                  j56 ()
            else
              gR [16] 135 a0 fun x61 =>
              bn (ko [16] a0 (m_X7_last a0)) fun r62 =>
              sV 30 x61 v52 (.int (r62 + 1)) <|
              gR [16] 136 a0 fun x63 =>
              sV 30 x63 v52 (.int 0) <|
              gR [16] 137 a0 fun x64 =>
              sV 30 x64 v52 (.int 0) <|
              j53 (v52 + 1))
          0
      else
        j48 ()
theorem hm_X7_wins : (yX7_wins.cls ≠ "java/lang/invoke/MethodHandle" ∧ yX7_wins.cls ≠ "java/lang/invoke/VarHandle" ∧ (parseMethodDescriptor yX7_wins.desc).map (fun d => d.parameters.length) = some 0) := by decide +kernel
set_option maxHeartbeats 4000000 in
set_option maxRecDepth 100000 in
theorem L_X7_wins {G : GT} (hG : GOK G) (a0 : Nat) : Cal G yX7_wins (ws_ yX7_wins cX7_wins 2 (Option.none : Option Jvm.ClassFile.FieldType)) 12 285 [.ref a0] rU (m_X7_wins a0) := by
  refine Cal_of hG (by decide +kernel) (Nat.le_of_ble_eq_true rfl) (lv0 := [(0, .ref a0)]) rfl (fun X σ0 => ?_)
  delta m_X7_wins
  refine Ex_aload_n dX7_wins_0 rfl 0 rfl ?_
  refine Ex_gI dX7_wins_1 lk_X7_19 rfl (fun x46 => ?_)
  refine Ex_bipush (v := 99) dX7_wins_4 (by decide) ?_
  refine Ex_jn (γ := Unit) (pj := 20) (fun v47 => []) (fun v47 => []) (fun v47 => ?_) (fun j48 hj48 => ?_)
  · exact Ex_vreturn dX7_wins_20 rfl
  · refine Ex_icmp_ne (tgt := 20) dX7_wins_6 (by decide) ?_ ?_
    · refine Ex_lv [] (lv' := []) rfl ?_
      exact hj48 ()
    · refine Ex_aload_n dX7_wins_9 rfl 0 rfl ?_
      refine Ex_aload_n dX7_wins_10 rfl 0 rfl ?_
      refine Ex_gI dX7_wins_11 lk_X7_177 rfl (fun x49 => ?_)
      refine Ex_bnI (Inv_V (L_X7_isMajority hG a0 x49) (lw_V q2243 q2244 q2245 q55 q2246) oe_16 ⟨rfl, hm_X7_isMajority⟩ (by decide) (by decide) dX7_wins_14 rfl (Nat.le_of_ble_eq_true rfl)) (fun r50 => ?_)
      refine Ex_if_ne (tgt := 21) dX7_wins_17 (by decide) ?_ ?_
      · refine Ex_aload_n dX7_wins_21 rfl 0 rfl ?_
        refine Ex_bipush (v := 108) dX7_wins_22 (by decide) ?_
        refine Ex_pV dX7_wins_24 lk_X7_19 rfl rfl rfl rfl ?_
        refine Ex_aload_n dX7_wins_27 rfl 0 rfl ?_
        refine Ex_nO (ci := 21) (q := qcl 21) dX7_wins_28 rfl q1945 q120 q48 (fun a51 => ?_)
        refine Ex_dup rfl dX7_wins_31 ?_
        refine Ex_bnU (Inv_I (L_J2_init hG a51) q48 q1946 q122 q123 rfl hm_J2_init (by decide) (by decide) dX7_wins_32 rfl (Nat.le_of_ble_eq_true rfl)) (fun _ => ?_)
        refine Ex_pV dX7_wins_35 lk_X7_50 rfl rfl rfl rfl ?_
        refine Ex_iconst (v := 0) dX7_wins_38 (by decide) ?_
        refine Ex_istore_n (lv' := [(0, .ref a0), (1, .int 0)]) dX7_wins_39 rfl (by decide) [1, 0] rfl ?_
        refine Ex_lp (γ := Int32) (pj := 40) (fun v52 => [(0, .ref a0), (1, .int v52)]) (fun v52 => []) (fun j53 hj53 v52 => ?_) 0 rfl rfl
        refine Ex_iload_n dX7_wins_40 rfl 1 rfl ?_
        refine Ex_iconst (v := 5) dX7_wins_41 (by decide) ?_
        refine Ex_icmp_ge (tgt := 77) dX7_wins_42 (by decide) ?_ ?_
        · refine Ex_aload_n dX7_wins_77 rfl 0 rfl ?_
          refine Ex_bnI (Inv_V (L_X7_last hG a0) (lw_V q2138 q2139 q2140 q55 q2141) oe_16 ⟨rfl, hm_X7_last⟩ (by decide) (by decide) dX7_wins_78 rfl (Nat.le_of_ble_eq_true rfl)) (fun r54 => ?_)
          refine Ex_bipush (v := 80) dX7_wins_81 (by decide) ?_
          refine Ex_jn (γ := Unit) (pj := 109) (fun v55 => [(0, .ref a0)]) (fun v55 => []) (fun v55 => ?_) (fun j56 hj56 => ?_)
          · refine Ex_aload_n dX7_wins_109 rfl 0 rfl ?_
            refine Ex_bnU (Inv_V (L_X7_beginsRound hG a0) (lw_V q2128 q2129 q2130 q55 q2131) oe_16 ⟨rfl, hm_X7_beginsRound⟩ (by decide) (by decide) dX7_wins_110 rfl (Nat.le_of_ble_eq_true rfl)) (fun _ => ?_)
            exact Ex_vreturn dX7_wins_113 rfl
          · refine Ex_icmp_ge (tgt := 109) dX7_wins_83 (by decide) ?_ ?_
            · refine Ex_lv [0] (lv' := [(0, .ref a0)]) rfl ?_
              exact hj56 ()
            · refine Ex_aload_n dX7_wins_86 rfl 0 rfl ?_
              refine Ex_gR dX7_wins_87 lk_X7_30 rfl (fun x57 => ?_)
              refine Ex_nO (ci := 19) (q := qcl 19) dX7_wins_90 rfl q2154 q2253 q82 (fun a58 => ?_)
              refine Ex_dup rfl dX7_wins_93 ?_
              refine Ex_aload_n dX7_wins_94 rfl 0 rfl ?_
              refine Ex_gI dX7_wins_95 lk_X7_126 rfl (fun x59 => ?_)
              refine Ex_bipush (v := 111) dX7_wins_98 (by decide) ?_
              refine Ex_iconst (v := 0) dX7_wins_100 (by decide) ?_
              refine Ex_iconst (v := 0) dX7_wins_101 (by decide) ?_
              refine Ex_bnU (Inv_I (L_X17_init hG a58 x59 111 0 0) q82 q2254 q2255 q2256 rfl hm_X17_init (by decide) (by decide) dX7_wins_102 rfl (Nat.le_of_ble_eq_true rfl)) (fun _ => ?_)
              refine Ex_bnI (Inv_V (L_J2_add hG x57 a58) (lw_V q2133 q935 q936 q48 q937) oe_22 ⟨rfl, hm_J2_add⟩ (by decide) (by decide) dX7_wins_105 rfl (Nat.le_of_ble_eq_true rfl)) (fun r60 => ?_)
              refine Ex_istore_n (lv' := [(0, .ref a0), (1, .int r60)]) dX7_wins_108 rfl (by decide) [1, 0] rfl ?_
              refine Ex_lv [0] (lv' := [(0, .ref a0)]) rfl ?_
              exact hj56 ()
        · refine Ex_aload_n dX7_wins_45 rfl 0 rfl ?_
          refine Ex_gR dX7_wins_46 lk_X7_40 rfl (fun x61 => ?_)
          refine Ex_iload_n dX7_wins_49 rfl 1 rfl ?_
          refine Ex_aload_n dX7_wins_50 rfl 0 rfl ?_
          refine Ex_bnI (Inv_V (L_X7_last hG a0) (lw_V q2138 q2139 q2140 q55 q2141) oe_16 ⟨rfl, hm_X7_last⟩ (by decide) (by decide) dX7_wins_51 rfl (Nat.le_of_ble_eq_true rfl)) (fun r62 => ?_)
          refine Ex_iconst (v := 1) dX7_wins_54 (by decide) ?_
          refine Ex_iadd dX7_wins_55 ?_
          refine Ex_iast dX7_wins_56 ?_
          refine Ex_aload_n dX7_wins_57 rfl 0 rfl ?_
          refine Ex_gR dX7_wins_58 lk_X7_44 rfl (fun x63 => ?_)
          refine Ex_iload_n dX7_wins_61 rfl 1 rfl ?_
          refine Ex_iconst (v := 0) dX7_wins_62 (by decide) ?_
          refine Ex_iast dX7_wins_63 ?_
          refine Ex_aload_n dX7_wins_64 rfl 0 rfl ?_
          refine Ex_gR dX7_wins_65 lk_X7_47 rfl (fun x64 => ?_)
          refine Ex_iload_n dX7_wins_68 rfl 1 rfl ?_
          refine Ex_iconst (v := 0) dX7_wins_69 (by decide) ?_
          refine Ex_iast dX7_wins_70 ?_
          refine Ex_iinc (j := 1) (lv' := [(0, .ref a0), (1, .int (v52 + 1))]) dX7_wins_71 rfl rfl (by decide) [1, 0] rfl ?_
          refine Ex_goto (tgt := 40) dX7_wins_74 (by decide) ?_
          exact hj53 (v52 + 1)
      · refine Ex_lv [] (lv' := []) rfl ?_
        exact hj48 ()
