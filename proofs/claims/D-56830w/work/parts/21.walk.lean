-- QuorumAlmanacLaw.cell([II)I
def m_X0_cell (a0 : Nat) (x1 : Int32) : Ms Int32 :=
  aL 30 a0 fun x24 =>
  jn (fun (v25 : Int32) =>
      rt v25)
    fun j26 =>
    if x24 ≤ x1 then
      j26 0
    else
      aI 30 a0 x1 fun x27 =>
      j26 x27
theorem hm_X0_cell : (yX0_cell.cls ≠ "java/lang/invoke/MethodHandle" ∧ yX0_cell.cls ≠ "java/lang/invoke/VarHandle" ∧ (parseMethodDescriptor yX0_cell.desc).map (fun d => d.parameters.length) = some 2) := by decide +kernel
set_option maxHeartbeats 4000000 in
set_option maxRecDepth 100000 in
theorem L_X0_cell {G : GT} (hG : GOK G) (a0 : Nat) (x1 : Int32) : Cal G yX0_cell (ws_ yX0_cell cX0_cell 2 (Option.some Jvm.ClassFile.FieldType.int)) 2 60 [.ref a0, .int x1] rI (m_X0_cell a0 x1) := by
  refine Cal_of hG (by decide +kernel) (Nat.le_of_ble_eq_true rfl) (lv0 := [(0, .ref a0), (1, .int x1)]) rfl (fun X σ0 => ?_)
  delta m_X0_cell
  refine Ex_iload_n dX0_cell_0 rfl 1 rfl ?_
  refine Ex_aload_n dX0_cell_1 rfl 0 rfl ?_
  refine Ex_aL (j := 0) rfl dX0_cell_2 (fun x24 => ?_)
  refine Ex_jn (γ := Int32) (pj := 13) (fun v25 => []) (fun v25 => [.int v25]) (fun v25 => ?_) (fun j26 hj26 => ?_)
  · exact Ex_ireturn dX0_cell_13 rfl
  · refine Ex_icmp_ge (tgt := 12) dX0_cell_3 (by decide) ?_ ?_
    · refine Ex_iconst (v := 0) dX0_cell_12 (by decide) ?_
      refine Ex_lv [] (lv' := []) rfl ?_
      exact hj26 0
    · refine Ex_aload_n dX0_cell_6 rfl 0 rfl ?_
      refine Ex_iload_n dX0_cell_7 rfl 1 rfl ?_
      refine Ex_aI_i dX0_cell_8 (fun x27 => ?_)
      refine Ex_goto (tgt := 13) dX0_cell_9 (by decide) ?_
      refine Ex_lv [] (lv' := []) rfl ?_
      exact hj26 x27
-- QuorumAlmanac.isBetween(III)Z
def m_X1_isBetween (x0 : Int32) (x1 : Int32) (x2 : Int32) : Ms Int32 :=
  jn (fun (v20 : Int32) =>
      ck (v20 = 0 ∨ v20 = 1) <|
      rt v20)
    fun j21 =>
    jn (fun (v22 : Unit) =>
        j21 0)
      fun j23 =>
      if x0 < x1 then
        j23 ()
      else
        if x2 < x0 then
          j23 ()
        else
          j21 1
theorem hm_X1_isBetween : (yX1_isBetween.cls ≠ "java/lang/invoke/MethodHandle" ∧ yX1_isBetween.cls ≠ "java/lang/invoke/VarHandle" ∧ (parseMethodDescriptor yX1_isBetween.desc).map (fun d => d.parameters.length) = some 3) := by decide +kernel
set_option maxHeartbeats 4000000 in
set_option maxRecDepth 100000 in
theorem L_X1_isBetween {G : GT} (hG : GOK G) (x0 : Int32) (x1 : Int32) (x2 : Int32) : Cal G yX1_isBetween (ws_ yX1_isBetween cX1_isBetween 3 (Option.some Jvm.ClassFile.FieldType.boolean)) 2 60 [.int x0, .int x1, .int x2] rI (m_X1_isBetween x0 x1 x2) := by
  refine Cal_of hG (by decide +kernel) (Nat.le_of_ble_eq_true rfl) (lv0 := [(0, .int x0), (1, .int x1), (2, .int x2)]) rfl (fun X σ0 => ?_)
  delta m_X1_isBetween
  refine Ex_iload_n dX1_isBetween_0 rfl 0 rfl ?_
  refine Ex_iload_n dX1_isBetween_1 rfl 1 rfl ?_
  refine Ex_jn (γ := Int32) (pj := 15) (fun v20 => []) (fun v20 => [.int v20]) (fun v20 => ?_) (fun j21 hj21 => ?_)
  · refine Ex_ck (fun hz => ?_)
    exact Ex_zreturn dX1_isBetween_15 rfl (zok_n hz)
  · refine Ex_jn (γ := Unit) (pj := 14) (fun v22 => []) (fun v22 => []) (fun v22 => ?_) (fun j23 hj23 => ?_)
    · refine Ex_iconst (v := 0) dX1_isBetween_14 (by decide) ?_
      exact hj21 0
    · refine Ex_icmp_lt (tgt := 14) dX1_isBetween_2 (by decide) ?_ ?_
      · refine Ex_lv [] (lv' := []) rfl ?_
        exact hj23 ()
      · refine Ex_iload_n dX1_isBetween_5 rfl 0 rfl ?_
        refine Ex_iload_n dX1_isBetween_6 rfl 2 rfl ?_
        refine Ex_icmp_gt (tgt := 14) dX1_isBetween_7 (by decide) ?_ ?_
        · refine Ex_lv [] (lv' := []) rfl ?_
          exact hj23 ()
        · refine Ex_iconst (v := 1) dX1_isBetween_10 (by decide) ?_
          refine Ex_goto (tgt := 15) dX1_isBetween_11 (by decide) ?_
          refine Ex_lv [] (lv' := []) rfl ?_
          exact hj21 1
-- QuorumAlmanac.requireIndex(Z)V
def m_X1_requireIndex (x0 : Int32) : Ms Unit :=
  if ¬ x0 = 0 then
    rt ()
  else
    th 0
theorem hm_X1_requireIndex : (yX1_requireIndex.cls ≠ "java/lang/invoke/MethodHandle" ∧ yX1_requireIndex.cls ≠ "java/lang/invoke/VarHandle" ∧ (parseMethodDescriptor yX1_requireIndex.desc).map (fun d => d.parameters.length) = some 1) := by decide +kernel
set_option maxHeartbeats 4000000 in
set_option maxRecDepth 100000 in
theorem L_X1_requireIndex {G : GT} (hG : GOK G) (x0 : Int32) : Cal G yX1_requireIndex (ws_ yX1_requireIndex cX1_requireIndex 1 (Option.none : Option Jvm.ClassFile.FieldType)) 6 89 [.int x0] rU (m_X1_requireIndex x0) := by
  refine Cal_of hG (by decide +kernel) (Nat.le_of_ble_eq_true rfl) (lv0 := [(0, .int x0)]) rfl (fun X σ0 => ?_)
  delta m_X1_requireIndex
  refine Ex_iload_n dX1_requireIndex_0 rfl 0 rfl ?_
  refine Ex_if_ne (tgt := 12) dX1_requireIndex_1 (by decide) ?_ ?_
  · exact Ex_vreturn dX1_requireIndex_12 rfl
  · exact Ex_th ["java/lang/RuntimeException", "java/lang/Exception"] (by decide) (by decide) q884 q61 at_X1_3 dX1_requireIndex_4 dX1_requireIndex_7 dX1_requireIndex_8 dX1_requireIndex_11 (fun _ hz => nomatch hz) (by decide) (Nat.le_of_ble_eq_true rfl)
-- QuorumAlmanac.node(I)LQuorumAlmanac$Node;
def m_X1_node (a0 : Nat) (x1 : Int32) : Ms Nat :=
  bn (m_X1_isBetween x1 0 4) fun r26 =>
  bd (m_X1_requireIndex r26) fun _ =>
  gR [1] 104 a0 fun x27 =>
  aR 33 x27 x1 fun x28 =>
  rt x28
theorem hm_X1_node : (yX1_node.cls ≠ "java/lang/invoke/MethodHandle" ∧ yX1_node.cls ≠ "java/lang/invoke/VarHandle" ∧ (parseMethodDescriptor yX1_node.desc).map (fun d => d.parameters.length) = some 1) := by decide +kernel
set_option maxHeartbeats 4000000 in
set_option maxRecDepth 100000 in
theorem L_X1_node {G : GT} (hG : GOK G) (a0 : Nat) (x1 : Int32) : Cal G yX1_node (ws_ yX1_node cX1_node 2 (Option.some (Jvm.ClassFile.FieldType.object "QuorumAlmanac$Node"))) 7 109 [.ref a0, .int x1] rR (m_X1_node a0 x1) := by
  refine Cal_of hG (by decide +kernel) (Nat.le_of_ble_eq_true rfl) (lv0 := [(0, .ref a0), (1, .int x1)]) rfl (fun X σ0 => ?_)
  delta m_X1_node
  refine Ex_iload_n dX1_node_0 rfl 1 rfl ?_
  refine Ex_iconst (v := 0) dX1_node_1 (by decide) ?_
  refine Ex_iconst (v := 4) dX1_node_2 (by decide) ?_
  refine Ex_bnI (Inv_S (L_X1_isBetween hG x1 0 4) (lw_S q878 q879 q45 q880) hm_X1_isBetween (by decide) (by decide) dX1_node_3 rfl (Nat.le_of_ble_eq_true rfl)) (fun r26 => ?_)
  refine Ex_bdU (Inv_S (L_X1_requireIndex hG r26) (lw_S q881 q882 q45 q883) hm_X1_requireIndex (by decide) (by decide) dX1_node_6 rfl (Nat.le_of_ble_eq_true rfl)) (fun _ hz => nomatch hz) (fun _ => ?_)
  refine Ex_aload_n dX1_node_9 rfl 0 rfl ?_
  refine Ex_gR dX1_node_10 lk_X1_35 rfl (fun x27 => ?_)
  refine Ex_iload_n dX1_node_13 rfl 1 rfl ?_
  refine Ex_aR (j := 3) rfl rfl dX1_node_14 (fun x28 => ?_)
  exact Ex_areturn dX1_node_15 rfl (Or.inl ⟨_, rfl⟩)
-- QuorumAlmanac.requireState(Z)V
def m_X1_requireState (x0 : Int32) : Ms Unit :=
  if ¬ x0 = 0 then
    rt ()
  else
    th 1
theorem hm_X1_requireState : (yX1_requireState.cls ≠ "java/lang/invoke/MethodHandle" ∧ yX1_requireState.cls ≠ "java/lang/invoke/VarHandle" ∧ (parseMethodDescriptor yX1_requireState.desc).map (fun d => d.parameters.length) = some 1) := by decide +kernel
set_option maxHeartbeats 4000000 in
set_option maxRecDepth 100000 in
theorem L_X1_requireState {G : GT} (hG : GOK G) (x0 : Int32) : Cal G yX1_requireState (ws_ yX1_requireState cX1_requireState 1 (Option.none : Option Jvm.ClassFile.FieldType)) 6 89 [.int x0] rU (m_X1_requireState x0) := by
  refine Cal_of hG (by decide +kernel) (Nat.le_of_ble_eq_true rfl) (lv0 := [(0, .int x0)]) rfl (fun X σ0 => ?_)
  delta m_X1_requireState
  refine Ex_iload_n dX1_requireState_0 rfl 0 rfl ?_
  refine Ex_if_ne (tgt := 12) dX1_requireState_1 (by decide) ?_ ?_
  · exact Ex_vreturn dX1_requireState_12 rfl
  · exact Ex_th ["java/lang/RuntimeException", "java/lang/Exception"] (by decide) (by decide) q908 q64 at_X1_12 dX1_requireState_4 dX1_requireState_7 dX1_requireState_8 dX1_requireState_11 (fun _ hz => nomatch hz) (by decide) (Nat.le_of_ble_eq_true rfl)
-- QuorumAlmanac.running(I)LQuorumAlmanac$Node;
def m_X1_running (a0 : Nat) (x1 : Int32) : Ms Nat :=
  bd (ko [1] a0 (m_X1_node a0 x1)) fun r24 =>
  gI [2] 5 r24 fun x25 =>
  bd (m_X1_requireState x25) fun _ =>
  rt r24
theorem hm_X1_running : (yX1_running.cls ≠ "java/lang/invoke/MethodHandle" ∧ yX1_running.cls ≠ "java/lang/invoke/VarHandle" ∧ (parseMethodDescriptor yX1_running.desc).map (fun d => d.parameters.length) = some 1) := by decide +kernel
set_option maxHeartbeats 4000000 in
set_option maxRecDepth 100000 in
theorem L_X1_running {G : GT} (hG : GOK G) (a0 : Nat) (x1 : Int32) : Cal G yX1_running (ws_ yX1_running cX1_running 3 (Option.some (Jvm.ClassFile.FieldType.object "QuorumAlmanac$Node"))) 8 130 [.ref a0, .int x1] rR (m_X1_running a0 x1) := by
  refine Cal_of hG (by decide +kernel) (Nat.le_of_ble_eq_true rfl) (lv0 := [(0, .ref a0), (1, .int x1)]) rfl (fun X σ0 => ?_)
  delta m_X1_running
  refine Ex_aload_n dX1_running_0 rfl 0 rfl ?_
  refine Ex_iload_n dX1_running_1 rfl 1 rfl ?_
  refine Ex_bdR (Inv_V (L_X1_node hG a0 x1) (lw_V q874 q876 qs5 q45 q877) oe_1 ⟨rfl, hm_X1_node⟩ (by decide) (by decide) dX1_running_2 rfl (Nat.le_of_ble_eq_true rfl)) (fun _ hz => nomatch hz) (fun r24 => ?_)
  refine Ex_astore_n (lv' := [(0, .ref a0), (1, .int x1), (2, .ref r24)]) dX1_running_5 rfl (by decide) [1, 2, 0] rfl ?_
  refine Ex_aload_n dX1_running_6 rfl 2 rfl ?_
  refine Ex_gI dX1_running_7 lk_X1_113 rfl (fun x25 => ?_)
  refine Ex_bdU (Inv_S (L_X1_requireState hG x25) (lw_S q905 q906 q45 q907) hm_X1_requireState (by decide) (by decide) dX1_running_10 rfl (Nat.le_of_ble_eq_true rfl)) (fun _ hz => nomatch hz) (fun _ => ?_)
  refine Ex_aload_n dX1_running_13 rfl 2 rfl ?_
  exact Ex_areturn dX1_running_14 rfl (Or.inl ⟨_, rfl⟩)
-- java/util/ArrayList.size()I
def m_J2_size (a0 : Nat) : Ms Int32 :=
  gI [22] 93 a0 fun x22 =>
  rt x22
theorem hm_J2_size : (yJ2_size.cls ≠ "java/lang/invoke/MethodHandle" ∧ yJ2_size.cls ≠ "java/lang/invoke/VarHandle" ∧ (parseMethodDescriptor yJ2_size.desc).map (fun d => d.parameters.length) = some 0) := by decide +kernel
set_option maxHeartbeats 4000000 in
set_option maxRecDepth 100000 in
theorem L_J2_size {G : GT} (hG : GOK G) (a0 : Nat) : Cal G yJ2_size (ws_ yJ2_size cJ2_size 1 (Option.some Jvm.ClassFile.FieldType.int)) 2 60 [.ref a0] rI (m_J2_size a0) := by
  refine Cal_of hG (by decide +kernel) (Nat.le_of_ble_eq_true rfl) (lv0 := [(0, .ref a0)]) rfl (fun X σ0 => ?_)
  delta m_J2_size
  refine Ex_aload_n dJ2_size_0 rfl 0 rfl ?_
  refine Ex_gI dJ2_size_1 lk_J2_48 rfl (fun x22 => ?_)
  exact Ex_ireturn dJ2_size_4 rfl
-- QuorumAlmanac$Node.last()I
def m_X2_last (a0 : Nat) : Ms Int32 :=
  gR [2] 108 a0 fun x28 =>
  gI [5] 20 x28 fun x29 =>
  gR [2] 109 a0 fun x30 =>
  bn (ko [22] x30 (m_J2_size x30)) fun r31 =>
  rt (x29 + r31)
theorem hm_X2_last : (yX2_last.cls ≠ "java/lang/invoke/MethodHandle" ∧ yX2_last.cls ≠ "java/lang/invoke/VarHandle" ∧ (parseMethodDescriptor yX2_last.desc).map (fun d => d.parameters.length) = some 0) := by decide +kernel
set_option maxHeartbeats 4000000 in
set_option maxRecDepth 100000 in
theorem L_X2_last {G : GT} (hG : GOK G) (a0 : Nat) : Cal G yX2_last (ws_ yX2_last cX2_last 1 (Option.some Jvm.ClassFile.FieldType.int)) 3 80 [.ref a0] rI (m_X2_last a0) := by
  refine Cal_of hG (by decide +kernel) (Nat.le_of_ble_eq_true rfl) (lv0 := [(0, .ref a0)]) rfl (fun X σ0 => ?_)
  delta m_X2_last
  refine Ex_aload_n dX2_last_0 rfl 0 rfl ?_
  refine Ex_gR dX2_last_1 lk_X2_68 rfl (fun x28 => ?_)
  refine Ex_gI dX2_last_4 lk_X2_72 rfl (fun x29 => ?_)
  refine Ex_aload_n dX2_last_7 rfl 0 rfl ?_
  refine Ex_gR dX2_last_8 lk_X2_33 rfl (fun x30 => ?_)
  refine Ex_bnI (Inv_V (L_J2_size hG x30) (lw_V q111 q112 q113 q48 q114) oe_22 ⟨rfl, hm_J2_size⟩ (by decide) (by decide) dX2_last_11 rfl (Nat.le_of_ble_eq_true rfl)) (fun r31 => ?_)
  refine Ex_iadd dX2_last_14 ?_
  exact Ex_ireturn dX2_last_15 rfl
-- jdk/internal/util/Preconditions.checkIndex(IILjava/util/function/BiFunction;)I
def m_J12_checkIndex (x0 : Int32) (x1 : Int32) (o2 : Option Nat) : Ms Int32 :=
  jn (fun (v20 : Unit) =>
      fl)
    fun j21 =>
    if x0 < 0 then
      j21 ()
    else
      if x0 < x1 then
        rt x0
      else
        j21 ()
theorem hm_J12_checkIndex : (yJ12_checkIndex.cls ≠ "java/lang/invoke/MethodHandle" ∧ yJ12_checkIndex.cls ≠ "java/lang/invoke/VarHandle" ∧ (parseMethodDescriptor yJ12_checkIndex.desc).map (fun d => d.parameters.length) = some 3) := by decide +kernel
set_option maxHeartbeats 4000000 in
set_option maxRecDepth 100000 in
theorem L_J12_checkIndex {G : GT} (hG : GOK G) (x0 : Int32) (x1 : Int32) (o2 : Option Nat) : Cal G yJ12_checkIndex (ws_ yJ12_checkIndex cJ12_checkIndex 3 (Option.some Jvm.ClassFile.FieldType.int)) 2 60 [.int x0, .int x1, va_rf o2] rI (m_J12_checkIndex x0 x1 o2) := by
  refine Cal_of hG (by decide +kernel) (by cases o2 <;> exact Nat.le_of_ble_eq_true rfl) (lv0 := [(0, .int x0), (1, .int x1), (2, va_rf o2)]) (by cases o2 <;> rfl) (fun X σ0 => ?_)
  delta m_J12_checkIndex
  refine Ex_iload_n dJ12_checkIndex_0 rfl 0 rfl ?_
  refine Ex_jn (γ := Unit) (pj := 9) (fun v20 => []) (fun v20 => []) (fun v20 => ?_) (fun j21 hj21 => ?_)
  · exact Ex_fl
  · refine Ex_if_lt (tgt := 9) dJ12_checkIndex_1 (by decide) ?_ ?_
    · refine Ex_lv [] (lv' := []) rfl ?_
      exact hj21 ()
    · refine Ex_iload_n dJ12_checkIndex_4 rfl 0 rfl ?_
      refine Ex_iload_n dJ12_checkIndex_5 rfl 1 rfl ?_
      refine Ex_icmp_lt (tgt := 16) dJ12_checkIndex_6 (by decide) ?_ ?_
      · refine Ex_iload_n dJ12_checkIndex_16 rfl 0 rfl ?_
        exact Ex_ireturn dJ12_checkIndex_17 rfl
      · refine Ex_lv [] (lv' := []) rfl ?_
        exact hj21 ()
-- java/util/Objects.checkIndex(II)I
def m_J11_checkIndex (x0 : Int32) (x1 : Int32) : Ms Int32 :=
  bn (m_J12_checkIndex x0 x1 none) fun r22 =>
  rt r22
theorem hm_J11_checkIndex : (yJ11_checkIndex.cls ≠ "java/lang/invoke/MethodHandle" ∧ yJ11_checkIndex.cls ≠ "java/lang/invoke/VarHandle" ∧ (parseMethodDescriptor yJ11_checkIndex.desc).map (fun d => d.parameters.length) = some 2) := by decide +kernel
set_option maxHeartbeats 4000000 in
set_option maxRecDepth 100000 in
theorem L_J11_checkIndex {G : GT} (hG : GOK G) (x0 : Int32) (x1 : Int32) : Cal G yJ11_checkIndex (ws_ yJ11_checkIndex cJ11_checkIndex 2 (Option.some Jvm.ClassFile.FieldType.int)) 3 82 [.int x0, .int x1] rI (m_J11_checkIndex x0 x1) := by
  refine Cal_of hG (by decide +kernel) (Nat.le_of_ble_eq_true rfl) (lv0 := [(0, .int x0), (1, .int x1)]) rfl (fun X σ0 => ?_)
  delta m_J11_checkIndex
  refine Ex_iload_n dJ11_checkIndex_0 rfl 0 rfl ?_
  refine Ex_iload_n dJ11_checkIndex_1 rfl 1 rfl ?_
  refine Ex_null dJ11_checkIndex_2 ?_
  refine Ex_bnI (Inv_S (L_J12_checkIndex hG x0 x1 none) (lw_S q421 q422 q66 q423) hm_J12_checkIndex (by decide) (by decide) dJ11_checkIndex_3 rfl (Nat.le_of_ble_eq_true rfl)) (fun r22 => ?_)
  exact Ex_ireturn dJ11_checkIndex_6 rfl
-- java/util/ArrayList.elementData(I)Ljava/lang/Object;
def m_J2_elementData (a0 : Nat) (x1 : Int32) : Ms Nat :=
  gR [22] 145 a0 fun x24 =>
  aR 32 x24 x1 fun x25 =>
  rt x25
theorem hm_J2_elementData : (yJ2_elementData.cls ≠ "java/lang/invoke/MethodHandle" ∧ yJ2_elementData.cls ≠ "java/lang/invoke/VarHandle" ∧ (parseMethodDescriptor yJ2_elementData.desc).map (fun d => d.parameters.length) = some 1) := by decide +kernel
set_option maxHeartbeats 4000000 in
set_option maxRecDepth 100000 in
theorem L_J2_elementData {G : GT} (hG : GOK G) (a0 : Nat) (x1 : Int32) : Cal G yJ2_elementData (ws_ yJ2_elementData cJ2_elementData 2 (Option.some (Jvm.ClassFile.FieldType.object "java/lang/Object"))) 2 60 [.ref a0, .int x1] rR (m_J2_elementData a0 x1) := by
  refine Cal_of hG (by decide +kernel) (Nat.le_of_ble_eq_true rfl) (lv0 := [(0, .ref a0), (1, .int x1)]) rfl (fun X σ0 => ?_)
  delta m_J2_elementData
  refine Ex_aload_n dJ2_elementData_0 rfl 0 rfl ?_
  refine Ex_gR dJ2_elementData_1 lk_J2_9 rfl (fun x24 => ?_)
  refine Ex_iload_n dJ2_elementData_4 rfl 1 rfl ?_
  refine Ex_aR (j := 2) rfl rfl dJ2_elementData_5 (fun x25 => ?_)
  exact Ex_areturn dJ2_elementData_6 rfl (Or.inl ⟨_, rfl⟩)
-- java/util/ArrayList.get(I)Ljava/lang/Object;
def m_J2_get (a0 : Nat) (x1 : Int32) : Ms Nat :=
  gI [22] 93 a0 fun x26 =>
  bn (m_J11_checkIndex x1 x26) fun r27 =>
  bn (ko [22] a0 (m_J2_elementData a0 x1)) fun r28 =>
  rt r28
theorem hm_J2_get : (yJ2_get.cls ≠ "java/lang/invoke/MethodHandle" ∧ yJ2_get.cls ≠ "java/lang/invoke/VarHandle" ∧ (parseMethodDescriptor yJ2_get.desc).map (fun d => d.parameters.length) = some 1) := by decide +kernel
set_option maxHeartbeats 4000000 in
set_option maxRecDepth 100000 in
theorem L_J2_get {G : GT} (hG : GOK G) (a0 : Nat) (x1 : Int32) : Cal G yJ2_get (ws_ yJ2_get cJ2_get 2 (Option.some (Jvm.ClassFile.FieldType.object "java/lang/Object"))) 4 103 [.ref a0, .int x1] rR (m_J2_get a0 x1) := by
  refine Cal_of hG (by decide +kernel) (Nat.le_of_ble_eq_true rfl) (lv0 := [(0, .ref a0), (1, .int x1)]) rfl (fun X σ0 => ?_)
  delta m_J2_get
  refine Ex_iload_n dJ2_get_0 rfl 1 rfl ?_
  refine Ex_aload_n dJ2_get_1 rfl 0 rfl ?_
  refine Ex_gI dJ2_get_2 lk_J2_48 rfl (fun x26 => ?_)
  refine Ex_bnI (Inv_S (L_J11_checkIndex hG x1 x26) (lw_S q418 q419 q65 q420) hm_J11_checkIndex (by decide) (by decide) dJ2_get_5 rfl (Nat.le_of_ble_eq_true rfl)) (fun r27 => ?_)
  refine Ex_pop rfl dJ2_get_8 ?_
  refine Ex_aload_n dJ2_get_9 rfl 0 rfl ?_
  refine Ex_iload_n dJ2_get_10 rfl 1 rfl ?_
  refine Ex_bnR (Inv_V (L_J2_elementData hG a0 x1) (lw_V q424 q425 q426 q48 q427) oe_22 ⟨rfl, hm_J2_elementData⟩ (by decide) (by decide) dJ2_get_11 rfl (Nat.le_of_ble_eq_true rfl)) (fun r28 => ?_)
  exact Ex_areturn dJ2_get_14 rfl (Or.inl ⟨_, rfl⟩)
-- QuorumAlmanac$Node.entry(I)LQuorumAlmanac$Entry;
def m_X2_entry (a0 : Nat) (x1 : Int32) : Ms Nat :=
  gR [2] 109 a0 fun x28 =>
  gR [2] 108 a0 fun x29 =>
  gI [5] 20 x29 fun x30 =>
  bn (ko [22] x28 (m_J2_get x28 ((x1 - x30) - 1))) fun r31 =>
  ko [9] r31 <|
  rt r31
theorem hm_X2_entry : (yX2_entry.cls ≠ "java/lang/invoke/MethodHandle" ∧ yX2_entry.cls ≠ "java/lang/invoke/VarHandle" ∧ (parseMethodDescriptor yX2_entry.desc).map (fun d => d.parameters.length) = some 1) := by decide +kernel
set_option maxHeartbeats 4000000 in
set_option maxRecDepth 100000 in
theorem L_X2_entry {G : GT} (hG : GOK G) (a0 : Nat) (x1 : Int32) : Cal G yX2_entry (ws_ yX2_entry cX2_entry 2 (Option.some (Jvm.ClassFile.FieldType.object "QuorumAlmanac$Entry"))) 5 124 [.ref a0, .int x1] rR (m_X2_entry a0 x1) := by
  refine Cal_of hG (by decide +kernel) (Nat.le_of_ble_eq_true rfl) (lv0 := [(0, .ref a0), (1, .int x1)]) rfl (fun X σ0 => ?_)
  delta m_X2_entry
  refine Ex_aload_n dX2_entry_0 rfl 0 rfl ?_
  refine Ex_gR dX2_entry_1 lk_X2_33 rfl (fun x28 => ?_)
  refine Ex_iload_n dX2_entry_4 rfl 1 rfl ?_
  refine Ex_aload_n dX2_entry_5 rfl 0 rfl ?_
  refine Ex_gR dX2_entry_6 lk_X2_68 rfl (fun x29 => ?_)
  refine Ex_gI dX2_entry_9 lk_X2_72 rfl (fun x30 => ?_)
  refine Ex_isub dX2_entry_12 ?_
  refine Ex_iconst (v := 1) dX2_entry_13 (by decide) ?_
  refine Ex_isub dX2_entry_14 ?_
  refine Ex_bnR (Inv_V (L_J2_get hG x28 ((x1 - x30) - 1)) (lw_V q414 q415 q416 q48 q417) oe_22 ⟨rfl, hm_J2_get⟩ (by decide) (by decide) dX2_entry_15 rfl (Nat.le_of_ble_eq_true rfl)) (fun r31 => ?_)
  refine Ex_ko dX2_entry_18 q428 oc_QuorumAlmanac_Entry_9 ?_
  exact Ex_areturn dX2_entry_21 rfl (Or.inl ⟨_, rfl⟩)
-- QuorumAlmanac$Members.<init>(II)V
def m_X3_init (a0 : Nat) (x1 : Int32) (x2 : Int32) : Ms Unit :=
  pV [3] 18 a0 (.int x1) <|
  pV [3] 19 a0 (.int x2) <|
  rt ()
theorem hm_X3_init : (yX3_init.cls ≠ "java/lang/invoke/MethodHandle" ∧ yX3_init.cls ≠ "java/lang/invoke/VarHandle" ∧ (parseMethodDescriptor yX3_init.desc).map (fun d => d.parameters.length) = some 2) := by decide +kernel
set_option maxHeartbeats 4000000 in
set_option maxRecDepth 100000 in
theorem L_X3_init {G : GT} (hG : GOK G) (a0 : Nat) (x1 : Int32) (x2 : Int32) : Cal G yX3_init (ws_ yX3_init cX3_init 3 (Option.none : Option Jvm.ClassFile.FieldType)) 2 60 [.ref a0, .int x1, .int x2] rU (m_X3_init a0 x1 x2) := by
  refine Cal_of hG (by decide +kernel) (Nat.le_of_ble_eq_true rfl) (lv0 := [(0, .ref a0), (1, .int x1), (2, .int x2)]) rfl (fun X σ0 => ?_)
  delta m_X3_init
  refine Ex_aload_n dX3_init_0 rfl 0 rfl ?_
  refine Ex_objInit dX3_init_1 q160 q103 q104 (by decide) (Nat.le_of_ble_eq_true rfl) ?_
  refine Ex_aload_n dX3_init_4 rfl 0 rfl ?_
  refine Ex_iload_n dX3_init_5 rfl 1 rfl ?_
  refine Ex_pVF dX3_init_6 lkf_X3_7 rfl rfl rfl rfl rfl rfl ?_
  refine Ex_aload_n dX3_init_9 rfl 0 rfl ?_
  refine Ex_iload_n dX3_init_10 rfl 2 rfl ?_
  refine Ex_pVF dX3_init_11 lkf_X3_13 rfl rfl rfl rfl rfl rfl ?_
  exact Ex_vreturn dX3_init_14 rfl
-- QuorumAlmanac$Node.members()LQuorumAlmanac$Members;
def m_X2_members (a0 : Nat) : Ms Nat :=
  bn (ko [2] a0 (m_X2_last a0)) fun r45 =>
  lp (fun j47 (v46 : Int32) =>
      gR [2] 108 a0 fun x48 =>
      gI [5] 20 x48 fun x49 =>
      if v46 ≤ x49 then
        gR [2] 108 a0 fun x50 =>
        gR [5] 119 x50 fun x51 =>
        rt x51
      else
        bn (ko [2] a0 (m_X2_entry a0 v46)) fun r52 =>
        gI [9] 33 r52 fun x53 =>
        jn (fun (v54 : Unit) =>
            nO 3 2 dfl fun a56 =>
            gI [9] 33 r52 fun x57 =>
            jn (fun (v58 : Int32 × Nat × Nat) =>
                gI [9] 34 r52 fun x60 =>
                bn (m_X3_init v58.2.1 v58.1 x60) fun _ =>
                rt v58.2.2)
              fun j59 =>
              if ¬ x57 = 106 then
                j59 (0, a56, a56)
              else
                gI [9] 35 r52 fun x61 =>
                j59 (x61, a56, a56))
          fun j55 =>
          if x53 = 106 then
            j55 ()
          else
            gI [9] 33 r52 fun x62 =>
            if ¬ x62 = 110 then
              j47 (v46 + (-1))
            else
              j55 ())
    r45
theorem hm_X2_members : (yX2_members.cls ≠ "java/lang/invoke/MethodHandle" ∧ yX2_members.cls ≠ "java/lang/invoke/VarHandle" ∧ (parseMethodDescriptor yX2_members.desc).map (fun d => d.parameters.length) = some 0) := by decide +kernel
set_option maxHeartbeats 4000000 in
set_option maxRecDepth 100000 in
theorem L_X2_members {G : GT} (hG : GOK G) (a0 : Nat) : Cal G yX2_members (ws_ yX2_members cX2_members 3 (Option.some (Jvm.ClassFile.FieldType.object "QuorumAlmanac$Members"))) 6 145 [.ref a0] rR (m_X2_members a0) := by
  refine Cal_of hG (by decide +kernel) (Nat.le_of_ble_eq_true rfl) (lv0 := [(0, .ref a0)]) rfl (fun X σ0 => ?_)
  delta m_X2_members
  refine Ex_aload_n dX2_members_0 rfl 0 rfl ?_
  refine Ex_bnI (Inv_V (L_X2_last hG a0) (lw_V q978 q108 q109 q50 q110) oe_2 ⟨rfl, hm_X2_last⟩ (by decide) (by decide) dX2_members_1 rfl (Nat.le_of_ble_eq_true rfl)) (fun r45 => ?_)
  refine Ex_istore_n (lv' := [(0, .ref a0), (1, .int r45)]) dX2_members_4 rfl (by decide) [1, 0] rfl ?_
  refine Ex_lp (γ := Int32) (pj := 5) (fun v46 => [(0, .ref a0), (1, .int v46)]) (fun v46 => []) (fun j47 hj47 v46 => ?_) r45 rfl rfl
  refine Ex_iload_n dX2_members_5 rfl 1 rfl ?_
  refine Ex_aload_n dX2_members_6 rfl 0 rfl ?_
  refine Ex_gR dX2_members_7 lk_X2_68 rfl (fun x48 => ?_)
  refine Ex_gI dX2_members_10 lk_X2_72 rfl (fun x49 => ?_)
  refine Ex_icmp_le (tgt := 75) dX2_members_13 (by decide) ?_ ?_
  · refine Ex_aload_n dX2_members_75 rfl 0 rfl ?_
    refine Ex_gR dX2_members_76 lk_X2_68 rfl (fun x50 => ?_)
    refine Ex_gR dX2_members_79 lk_X2_110 rfl (fun x51 => ?_)
    exact Ex_areturn dX2_members_82 rfl (Or.inl ⟨_, rfl⟩)
  · refine Ex_aload_n dX2_members_16 rfl 0 rfl ?_
    refine Ex_iload_n dX2_members_17 rfl 1 rfl ?_
    refine Ex_bnR (Inv_V (L_X2_entry hG a0 v46) (lw_V q747 q411 q412 q50 q413) oe_2 ⟨rfl, hm_X2_entry⟩ (by decide) (by decide) dX2_members_18 rfl (Nat.le_of_ble_eq_true rfl)) (fun r52 => ?_)
    refine Ex_astore_n (lv' := [(0, .ref a0), (1, .int v46), (2, .ref r52)]) dX2_members_21 rfl (by decide) [1, 2, 0] rfl ?_
    refine Ex_aload_n dX2_members_22 rfl 2 rfl ?_
    refine Ex_gI dX2_members_23 lk_X2_96 rfl (fun x53 => ?_)
    refine Ex_bipush (v := 106) dX2_members_26 (by decide) ?_
    refine Ex_jn (γ := Unit) (pj := 40) (fun v54 => [(2, .ref r52)]) (fun v54 => []) (fun v54 => ?_) (fun j55 hj55 => ?_)
    · refine Ex_nO (ci := 2) (q := qcl 2) dX2_members_40 rfl q979 q156 q51 (fun a56 => ?_)
      refine Ex_dup rfl dX2_members_43 ?_
      refine Ex_aload_n dX2_members_44 rfl 0 rfl ?_
      refine Ex_gI dX2_members_45 lk_X2_96 rfl (fun x57 => ?_)
      refine Ex_bipush (v := 106) dX2_members_48 (by decide) ?_
      refine Ex_jn (γ := Int32 × Nat × Nat) (pj := 61) (fun v58 => [(2, .ref r52)]) (fun v58 => [.int v58.1, .ref v58.2.1, .ref v58.2.2]) (fun v58 => ?_) (fun j59 hj59 => ?_)
      · refine Ex_aload_n dX2_members_61 rfl 0 rfl ?_
        refine Ex_gI dX2_members_62 lk_X2_104 rfl (fun x60 => ?_)
        refine Ex_bnU (Inv_I (L_X3_init hG v58.2.1 v58.1 x60) q51 q980 q158 q159 rfl hm_X3_init (by decide) (by decide) dX2_members_65 rfl (Nat.le_of_ble_eq_true rfl)) (fun _ => ?_)
        exact Ex_areturn dX2_members_68 rfl (Or.inl ⟨_, rfl⟩)
      · refine Ex_icmp_ne (tgt := 60) dX2_members_50 (by decide) ?_ ?_
        · refine Ex_iconst (v := 0) dX2_members_60 (by decide) ?_
          exact hj59 (0, a56, a56)
        · refine Ex_aload_n dX2_members_53 rfl 0 rfl ?_
          refine Ex_gI dX2_members_54 lk_X2_101 rfl (fun x61 => ?_)
          refine Ex_goto (tgt := 61) dX2_members_57 (by decide) ?_
          exact hj59 (x61, a56, a56)
    · refine Ex_icmp_eq (tgt := 40) dX2_members_28 (by decide) ?_ ?_
      · refine Ex_lv [2] (lv' := [(2, .ref r52)]) rfl ?_
        exact hj55 ()
      · refine Ex_aload_n dX2_members_31 rfl 2 rfl ?_
        refine Ex_gI dX2_members_32 lk_X2_96 rfl (fun x62 => ?_)
        refine Ex_bipush (v := 110) dX2_members_35 (by decide) ?_
        refine Ex_icmp_ne (tgt := 69) dX2_members_37 (by decide) ?_ ?_
        · refine Ex_iinc (j := 1) (lv' := [(0, .ref a0), (1, .int (v46 + (-1))), (2, .ref r52)]) dX2_members_69 rfl rfl (by decide) [1, 0, 2] rfl ?_
          refine Ex_goto (tgt := 5) dX2_members_72 (by decide) ?_
          refine Ex_lv [0, 1] (lv' := [(0, .ref a0), (1, .int (v46 + (-1)))]) rfl ?_
          exact hj47 (v46 + (-1))
        · refine Ex_lv [2] (lv' := [(2, .ref r52)]) rfl ?_
          exact hj55 ()
-- QuorumAlmanac$Members.all()I
def m_X3_all (a0 : Nat) : Ms Int32 :=
  gI [3] 18 a0 fun x24 =>
  gI [3] 19 a0 fun x25 =>
  rt (x24 ||| x25)
theorem hm_X3_all : (yX3_all.cls ≠ "java/lang/invoke/MethodHandle" ∧ yX3_all.cls ≠ "java/lang/invoke/VarHandle" ∧ (parseMethodDescriptor yX3_all.desc).map (fun d => d.parameters.length) = some 0) := by decide +kernel
set_option maxHeartbeats 4000000 in
set_option maxRecDepth 100000 in
theorem L_X3_all {G : GT} (hG : GOK G) (a0 : Nat) : Cal G yX3_all (ws_ yX3_all cX3_all 1 (Option.some Jvm.ClassFile.FieldType.int)) 2 60 [.ref a0] rI (m_X3_all a0) := by
  refine Cal_of hG (by decide +kernel) (Nat.le_of_ble_eq_true rfl) (lv0 := [(0, .ref a0)]) rfl (fun X σ0 => ?_)
  delta m_X3_all
  refine Ex_aload_n dX3_all_0 rfl 0 rfl ?_
  refine Ex_gI dX3_all_1 lk_X3_7 rfl (fun x24 => ?_)
  refine Ex_aload_n dX3_all_4 rfl 0 rfl ?_
  refine Ex_gI dX3_all_5 lk_X3_13 rfl (fun x25 => ?_)
  refine Ex_ior dX3_all_8 ?_
  exact Ex_ireturn dX3_all_9 rfl
-- QuorumAlmanac.isIn(II)Z
def m_X1_isIn (x0 : Int32) (x1 : Int32) : Ms Int32 :=
  jn (fun (v20 : Int32) =>
      ck (v20 = 0 ∨ v20 = 1) <|
      rt v20)
    fun j21 =>
    if ¬ ((x0 >>> (x1 &&& 31)) &&& 1) = 1 then
      j21 0
    else
      j21 1
theorem hm_X1_isIn : (yX1_isIn.cls ≠ "java/lang/invoke/MethodHandle" ∧ yX1_isIn.cls ≠ "java/lang/invoke/VarHandle" ∧ (parseMethodDescriptor yX1_isIn.desc).map (fun d => d.parameters.length) = some 2) := by decide +kernel
set_option maxHeartbeats 4000000 in
set_option maxRecDepth 100000 in
theorem L_X1_isIn {G : GT} (hG : GOK G) (x0 : Int32) (x1 : Int32) : Cal G yX1_isIn (ws_ yX1_isIn cX1_isIn 2 (Option.some Jvm.ClassFile.FieldType.boolean)) 2 60 [.int x0, .int x1] rI (m_X1_isIn x0 x1) := by
  refine Cal_of hG (by decide +kernel) (Nat.le_of_ble_eq_true rfl) (lv0 := [(0, .int x0), (1, .int x1)]) rfl (fun X σ0 => ?_)
  delta m_X1_isIn
  refine Ex_iload_n dX1_isIn_0 rfl 0 rfl ?_
  refine Ex_iload_n dX1_isIn_1 rfl 1 rfl ?_
  refine Ex_ishr dX1_isIn_2 ?_
  refine Ex_iconst (v := 1) dX1_isIn_3 (by decide) ?_
  refine Ex_iand dX1_isIn_4 ?_
  refine Ex_iconst (v := 1) dX1_isIn_5 (by decide) ?_
  refine Ex_jn (γ := Int32) (pj := 14) (fun v20 => []) (fun v20 => [.int v20]) (fun v20 => ?_) (fun j21 hj21 => ?_)
  · refine Ex_ck (fun hz => ?_)
    exact Ex_zreturn dX1_isIn_14 rfl (zok_n hz)
  · refine Ex_icmp_ne (tgt := 13) dX1_isIn_6 (by decide) ?_ ?_
    · refine Ex_iconst (v := 0) dX1_isIn_13 (by decide) ?_
      refine Ex_lv [] (lv' := []) rfl ?_
      exact hj21 0
    · refine Ex_iconst (v := 1) dX1_isIn_9 (by decide) ?_
      refine Ex_goto (tgt := 14) dX1_isIn_10 (by decide) ?_
      refine Ex_lv [] (lv' := []) rfl ?_
      exact hj21 1
-- java/util/ArrayList$Itr.<init>(Ljava/util/ArrayList;)V
def m_J17_init (a0 : Nat) (a1 : Nat) : Ms Unit :=
  pV [23] 146 a0 (.ref a1) <|
  pV [23] 95 a0 (.int (-1)) <|
  gR [23] 146 a0 fun x24 =>
  gI [22] 92 x24 fun x25 =>
  pV [23] 96 a0 (.int x25) <|
  rt ()
theorem hm_J17_init : (yJ17_init.cls ≠ "java/lang/invoke/MethodHandle" ∧ yJ17_init.cls ≠ "java/lang/invoke/VarHandle" ∧ (parseMethodDescriptor yJ17_init.desc).map (fun d => d.parameters.length) = some 1) := by decide +kernel
set_option maxHeartbeats 4000000 in
set_option maxRecDepth 100000 in
theorem L_J17_init {G : GT} (hG : GOK G) (a0 : Nat) (a1 : Nat) : Cal G yJ17_init (ws_ yJ17_init cJ17_init 2 (Option.none : Option Jvm.ClassFile.FieldType)) 2 60 [.ref a0, .ref a1] rU (m_J17_init a0 a1) := by
  refine Cal_of hG (by decide +kernel) (Nat.le_of_ble_eq_true rfl) (lv0 := [(0, .ref a0), (1, .ref a1)]) rfl (fun X σ0 => ?_)
  delta m_J17_init
  refine Ex_aload_n dJ17_init_0 rfl 0 rfl ?_
  refine Ex_aload_n dJ17_init_1 rfl 1 rfl ?_
  refine Ex_pVF dJ17_init_2 lkf_J17_1 rfl rfl rfl rfl rfl rfl ?_
  refine Ex_aload_n dJ17_init_5 rfl 0 rfl ?_
  refine Ex_objInit dJ17_init_6 q1157 q103 q104 (by decide) (Nat.le_of_ble_eq_true rfl) ?_
  refine Ex_aload_n dJ17_init_9 rfl 0 rfl ?_
  refine Ex_iconst (v := (-1)) dJ17_init_10 (by decide) ?_
  refine Ex_pV dJ17_init_11 lk_J17_13 rfl rfl rfl rfl ?_
  refine Ex_aload_n dJ17_init_14 rfl 0 rfl ?_
  refine Ex_aload_n dJ17_init_15 rfl 0 rfl ?_
  refine Ex_gR dJ17_init_16 lk_J17_1 rfl (fun x24 => ?_)
  refine Ex_gI dJ17_init_19 lk_J17_17 rfl (fun x25 => ?_)
  refine Ex_pV dJ17_init_22 lk_J17_22 rfl rfl rfl rfl ?_
  exact Ex_vreturn dJ17_init_25 rfl
-- java/util/ArrayList.iterator()Ljava/util/Iterator;
def m_J2_iterator (a0 : Nat) : Ms Nat :=
  nO 23 4 dfl fun a22 =>
  bn (m_J17_init a22 a0) fun _ =>
  rt a22
theorem hm_J2_iterator : (yJ2_iterator.cls ≠ "java/lang/invoke/MethodHandle" ∧ yJ2_iterator.cls ≠ "java/lang/invoke/VarHandle" ∧ (parseMethodDescriptor yJ2_iterator.desc).map (fun d => d.parameters.length) = some 0) := by decide +kernel
set_option maxHeartbeats 4000000 in
set_option maxRecDepth 100000 in
theorem L_J2_iterator {G : GT} (hG : GOK G) (a0 : Nat) : Cal G yJ2_iterator (ws_ yJ2_iterator cJ2_iterator 1 (Option.some (Jvm.ClassFile.FieldType.object "java/util/Iterator"))) 3 81 [.ref a0] rR (m_J2_iterator a0) := by
  refine Cal_of hG (by decide +kernel) (Nat.le_of_ble_eq_true rfl) (lv0 := [(0, .ref a0)]) rfl (fun X σ0 => ?_)
  delta m_J2_iterator
  refine Ex_nO (ci := 22) (q := qcl 22) dJ2_iterator_0 rfl q1152 q1153 q77 (fun a22 => ?_)
  refine Ex_dup rfl dJ2_iterator_3 ?_
  refine Ex_aload_n dJ2_iterator_4 rfl 0 rfl ?_
  refine Ex_bnU (Inv_I (L_J17_init hG a22 a0) q77 q1154 q1155 q1156 rfl hm_J17_init (by decide) (by decide) dJ2_iterator_5 rfl (Nat.le_of_ble_eq_true rfl)) (fun _ => ?_)
  exact Ex_areturn dJ2_iterator_8 rfl (Or.inl ⟨_, rfl⟩)
-- java/util/ArrayList$Itr.hasNext()Z
def m_J17_hasNext (a0 : Nat) : Ms Int32 :=
  gI [23] 94 a0 fun x26 =>
  gR [23] 146 a0 fun x27 =>
  gI [22] 93 x27 fun x28 =>
  jn (fun (v29 : Int32) =>
      ck (v29 = 0 ∨ v29 = 1) <|
      rt v29)
    fun j30 =>
    if x26 = x28 then
      j30 0
    else
      j30 1
theorem hm_J17_hasNext : (yJ17_hasNext.cls ≠ "java/lang/invoke/MethodHandle" ∧ yJ17_hasNext.cls ≠ "java/lang/invoke/VarHandle" ∧ (parseMethodDescriptor yJ17_hasNext.desc).map (fun d => d.parameters.length) = some 0) := by decide +kernel
set_option maxHeartbeats 4000000 in
set_option maxRecDepth 100000 in
theorem L_J17_hasNext {G : GT} (hG : GOK G) (a0 : Nat) : Cal G yJ17_hasNext (ws_ yJ17_hasNext cJ17_hasNext 1 (Option.some Jvm.ClassFile.FieldType.boolean)) 2 60 [.ref a0] rI (m_J17_hasNext a0) := by
  refine Cal_of hG (by decide +kernel) (Nat.le_of_ble_eq_true rfl) (lv0 := [(0, .ref a0)]) rfl (fun X σ0 => ?_)
  delta m_J17_hasNext
  refine Ex_aload_n dJ17_hasNext_0 rfl 0 rfl ?_
  refine Ex_gI dJ17_hasNext_1 lk_J17_25 rfl (fun x26 => ?_)
  refine Ex_aload_n dJ17_hasNext_4 rfl 0 rfl ?_
  refine Ex_gR dJ17_hasNext_5 lk_J17_1 rfl (fun x27 => ?_)
  refine Ex_gI dJ17_hasNext_8 lk_J17_28 rfl (fun x28 => ?_)
  refine Ex_jn (γ := Int32) (pj := 19) (fun v29 => []) (fun v29 => [.int v29]) (fun v29 => ?_) (fun j30 hj30 => ?_)
  · refine Ex_ck (fun hz => ?_)
    exact Ex_zreturn dJ17_hasNext_19 rfl (zok_n hz)
  · refine Ex_icmp_eq (tgt := 18) dJ17_hasNext_11 (by decide) ?_ ?_
    · refine Ex_iconst (v := 0) dJ17_hasNext_18 (by decide) ?_
      refine Ex_lv [] (lv' := []) rfl ?_
      exact hj30 0
    · refine Ex_iconst (v := 1) dJ17_hasNext_14 (by decide) ?_
      refine Ex_goto (tgt := 19) dJ17_hasNext_15 (by decide) ?_
      refine Ex_lv [] (lv' := []) rfl ?_
      exact hj30 1
-- java/util/ArrayList$Itr.checkForComodification()V
def m_J17_checkForComodification (a0 : Nat) : Ms Unit :=
  gR [23] 146 a0 fun x26 =>
  gI [22] 92 x26 fun x27 =>
  gI [23] 96 a0 fun x28 =>
  if x27 = x28 then
    rt ()
  else
    fl
theorem hm_J17_checkForComodification : (yJ17_checkForComodification.cls ≠ "java/lang/invoke/MethodHandle" ∧ yJ17_checkForComodification.cls ≠ "java/lang/invoke/VarHandle" ∧ (parseMethodDescriptor yJ17_checkForComodification.desc).map (fun d => d.parameters.length) = some 0) := by decide +kernel
set_option maxHeartbeats 4000000 in
set_option maxRecDepth 100000 in
theorem L_J17_checkForComodification {G : GT} (hG : GOK G) (a0 : Nat) : Cal G yJ17_checkForComodification (ws_ yJ17_checkForComodification cJ17_checkForComodification 1 (Option.none : Option Jvm.ClassFile.FieldType)) 2 60 [.ref a0] rU (m_J17_checkForComodification a0) := by
  refine Cal_of hG (by decide +kernel) (Nat.le_of_ble_eq_true rfl) (lv0 := [(0, .ref a0)]) rfl (fun X σ0 => ?_)
  delta m_J17_checkForComodification
  refine Ex_aload_n dJ17_checkForComodification_0 rfl 0 rfl ?_
  refine Ex_gR dJ17_checkForComodification_1 lk_J17_1 rfl (fun x26 => ?_)
  refine Ex_gI dJ17_checkForComodification_4 lk_J17_17 rfl (fun x27 => ?_)
  refine Ex_aload_n dJ17_checkForComodification_7 rfl 0 rfl ?_
  refine Ex_gI dJ17_checkForComodification_8 lk_J17_22 rfl (fun x28 => ?_)
  refine Ex_icmp_eq (tgt := 22) dJ17_checkForComodification_11 (by decide) ?_ ?_
  · exact Ex_vreturn dJ17_checkForComodification_22 rfl
  · exact Ex_fl
-- java/util/ArrayList$Itr.next()Ljava/lang/Object;
def m_J17_next (a0 : Nat) : Ms Nat :=
  bn (ko [23] a0 (m_J17_checkForComodification a0)) fun _ =>
  gI [23] 94 a0 fun x34 =>
  gR [23] 146 a0 fun x35 =>
  gI [22] 93 x35 fun x36 =>
  if x34 < x36 then
    gR [23] 146 a0 fun x37 =>
    gR [22] 145 x37 fun x38 =>
    aL 32 x38 fun x39 =>
    if x34 < x39 then
      pV [23] 94 a0 (.int (x34 + 1)) <|
      pV [23] 95 a0 (.int x34) <|
      aR 32 x38 x34 fun x40 =>
      rt x40
    else
      fl
  else
    fl
theorem hm_J17_next : (yJ17_next.cls ≠ "java/lang/invoke/MethodHandle" ∧ yJ17_next.cls ≠ "java/lang/invoke/VarHandle" ∧ (parseMethodDescriptor yJ17_next.desc).map (fun d => d.parameters.length) = some 0) := by decide +kernel
set_option maxHeartbeats 4000000 in
set_option maxRecDepth 100000 in
theorem L_J17_next {G : GT} (hG : GOK G) (a0 : Nat) : Cal G yJ17_next (ws_ yJ17_next cJ17_next 3 (Option.some (Jvm.ClassFile.FieldType.object "java/lang/Object"))) 3 80 [.ref a0] rR (m_J17_next a0) := by
  refine Cal_of hG (by decide +kernel) (Nat.le_of_ble_eq_true rfl) (lv0 := [(0, .ref a0)]) rfl (fun X σ0 => ?_)
  delta m_J17_next
  refine Ex_aload_n dJ17_next_0 rfl 0 rfl ?_
  refine Ex_bnU (Inv_V (L_J17_checkForComodification hG a0) (lw_V q1190 q1191 q1192 q77 q1193) oe_23 ⟨rfl, hm_J17_checkForComodification⟩ (by decide) (by decide) dJ17_next_1 rfl (Nat.le_of_ble_eq_true rfl)) (fun _ => ?_)
  refine Ex_aload_n dJ17_next_4 rfl 0 rfl ?_
  refine Ex_gI dJ17_next_5 lk_J17_25 rfl (fun x34 => ?_)
  refine Ex_istore_n (lv' := [(0, .ref a0), (1, .int x34)]) dJ17_next_8 rfl (by decide) [1, 0] rfl ?_
  refine Ex_iload_n dJ17_next_9 rfl 1 rfl ?_
  refine Ex_aload_n dJ17_next_10 rfl 0 rfl ?_
  refine Ex_gR dJ17_next_11 lk_J17_1 rfl (fun x35 => ?_)
  refine Ex_gI dJ17_next_14 lk_J17_28 rfl (fun x36 => ?_)
  refine Ex_icmp_lt (tgt := 28) dJ17_next_17 (by decide) ?_ ?_
  · refine Ex_aload_n dJ17_next_28 rfl 0 rfl ?_
    refine Ex_gR dJ17_next_29 lk_J17_1 rfl (fun x37 => ?_)
    refine Ex_gR dJ17_next_32 lk_J17_37 rfl (fun x38 => ?_)
    refine Ex_astore_n (lv' := [(0, .ref a0), (1, .int x34), (2, .ref x38)]) dJ17_next_35 rfl (by decide) [1, 2, 0] rfl ?_
    refine Ex_iload_n dJ17_next_36 rfl 1 rfl ?_
    refine Ex_aload_n dJ17_next_37 rfl 2 rfl ?_
    refine Ex_aL (j := 2) rfl dJ17_next_38 (fun x39 => ?_)
    refine Ex_icmp_lt (tgt := 50) dJ17_next_39 (by decide) ?_ ?_
    · refine Ex_aload_n dJ17_next_50 rfl 0 rfl ?_
      refine Ex_iload_n dJ17_next_51 rfl 1 rfl ?_
      refine Ex_iconst (v := 1) dJ17_next_52 (by decide) ?_
      refine Ex_iadd dJ17_next_53 ?_
      refine Ex_pV dJ17_next_54 lk_J17_25 rfl rfl rfl rfl ?_
      refine Ex_aload_n dJ17_next_57 rfl 2 rfl ?_
      refine Ex_aload_n dJ17_next_58 rfl 0 rfl ?_
      refine Ex_iload_n dJ17_next_59 rfl 1 rfl ?_
      refine Ex_dup_x1 rfl rfl dJ17_next_60 ?_
      refine Ex_pV dJ17_next_61 lk_J17_13 rfl rfl rfl rfl ?_
      refine Ex_aR (j := 2) rfl rfl dJ17_next_64 (fun x40 => ?_)
      exact Ex_areturn dJ17_next_65 rfl (Or.inl ⟨_, rfl⟩)
    · exact Ex_fl
  · exact Ex_fl
-- QuorumAlmanac$Node.loseReads()V
def m_X2_loseReads (a0 : Nat) : Ms Unit :=
  gR [2] 115 a0 fun x36 =>
  gR [1] 106 x36 fun x37 =>
  bn (ko [22] x37 (m_J2_iterator x37)) fun r38 =>
  lp (fun j40 (v39 : Unit) =>
      bn (ko [23] r38 (m_J17_hasNext r38)) fun r41 =>
      if r41 = 0 then
        rt ()
      else
        bn (ko [23] r38 (m_J17_next r38)) fun r42 =>
        ko [13] r42 <|
        gI [13] 41 r42 fun x43 =>
        gI [2] 4 a0 fun x44 =>
        jn (fun (v45 : Unit) =>
            j40 ())
          fun j46 =>
          if ¬ x43 = x44 then
            j46 ()
          else
            gI [13] 46 r42 fun x47 =>
            if ¬ x47 = 119 then
              j46 ()
            else
              pV [13] 46 r42 (.int 108) <|
              j46 ())
    ()
theorem hm_X2_loseReads : (yX2_loseReads.cls ≠ "java/lang/invoke/MethodHandle" ∧ yX2_loseReads.cls ≠ "java/lang/invoke/VarHandle" ∧ (parseMethodDescriptor yX2_loseReads.desc).map (fun d => d.parameters.length) = some 0) := by decide +kernel
set_option maxHeartbeats 4000000 in
set_option maxRecDepth 100000 in
theorem L_X2_loseReads {G : GT} (hG : GOK G) (a0 : Nat) : Cal G yX2_loseReads (ws_ yX2_loseReads cX2_loseReads 3 (Option.none : Option Jvm.ClassFile.FieldType)) 4 102 [.ref a0] rU (m_X2_loseReads a0) := by
  refine Cal_of hG (by decide +kernel) (Nat.le_of_ble_eq_true rfl) (lv0 := [(0, .ref a0)]) rfl (fun X σ0 => ?_)
  delta m_X2_loseReads
  refine Ex_aload_n dX2_loseReads_0 rfl 0 rfl ?_
  refine Ex_gR dX2_loseReads_1 lk_X2_3 rfl (fun x36 => ?_)
  refine Ex_gR dX2_loseReads_4 lk_X2_154 rfl (fun x37 => ?_)
  refine Ex_bnR (Inv_V (L_J2_iterator hG x37) (lw_V q1148 q1149 q1150 q48 q1151) oe_22 ⟨rfl, hm_J2_iterator⟩ (by decide) (by decide) dX2_loseReads_7 rfl (Nat.le_of_ble_eq_true rfl)) (fun r38 => ?_)
  refine Ex_astore_n (lv' := [(0, .ref a0), (1, .ref r38)]) dX2_loseReads_10 rfl (by decide) [1, 0] rfl ?_
  refine Ex_lp (γ := Unit) (pj := 11) (fun v39 => [(0, .ref a0), (1, .ref r38)]) (fun v39 => []) (fun j40 hj40 v39 => ?_) () rfl rfl
  refine Ex_aload_n dX2_loseReads_11 rfl 1 rfl ?_
  refine Ex_bnI (Inv_F (L_J17_hasNext hG r38) (lw_F q1172 q1176 q1178 q77 q1180) q1174 q1173 q1179 q1177 q1175 oe_23 hx_Iterator_hasNext (by decide) (by decide) dX2_loseReads_12 rfl (Nat.le_of_ble_eq_true rfl)) (fun r41 => ?_)
  refine Ex_if_eq (tgt := 59) dX2_loseReads_17 (by decide) ?_ ?_
  · exact Ex_vreturn dX2_loseReads_59 rfl
  · refine Ex_aload_n dX2_loseReads_20 rfl 1 rfl ?_
    refine Ex_bnR (Inv_F (L_J17_next hG r38) (lw_F q1182 q1185 q1187 q77 q1189) q1184 q1183 q1188 q1186 q1175 oe_23 hx_Iterator_next (by decide) (by decide) dX2_loseReads_21 rfl (Nat.le_of_ble_eq_true rfl)) (fun r42 => ?_)
    refine Ex_ko dX2_loseReads_26 q1209 oc_QuorumAlmanac_Read_13 ?_
    refine Ex_astore_n (lv' := [(0, .ref a0), (1, .ref r38), (2, .ref r42)]) dX2_loseReads_29 rfl (by decide) [1, 2, 0] rfl ?_
    refine Ex_aload_n dX2_loseReads_30 rfl 2 rfl ?_
    refine Ex_gI dX2_loseReads_31 lk_X2_171 rfl (fun x43 => ?_)
    refine Ex_aload_n dX2_loseReads_34 rfl 0 rfl ?_
    refine Ex_gI dX2_loseReads_35 lk_X2_60 rfl (fun x44 => ?_)
    refine Ex_jn (γ := Unit) (pj := 56) (fun v45 => [(0, .ref a0), (1, .ref r38)]) (fun v45 => []) (fun v45 => ?_) (fun j46 hj46 => ?_)
    · refine Ex_goto (tgt := 11) dX2_loseReads_56 (by decide) ?_
      exact hj40 ()
    · refine Ex_icmp_ne (tgt := 56) dX2_loseReads_38 (by decide) ?_ ?_
      · refine Ex_lv [0, 1] (lv' := [(0, .ref a0), (1, .ref r38)]) rfl ?_
        exact hj46 ()
      · refine Ex_aload_n dX2_loseReads_41 rfl 2 rfl ?_
        refine Ex_gI dX2_loseReads_42 lk_X2_174 rfl (fun x47 => ?_)
        refine Ex_bipush (v := 119) dX2_loseReads_45 (by decide) ?_
        refine Ex_icmp_ne (tgt := 56) dX2_loseReads_47 (by decide) ?_ ?_
        · refine Ex_lv [0, 1] (lv' := [(0, .ref a0), (1, .ref r38)]) rfl ?_
          exact hj46 ()
        · refine Ex_aload_n dX2_loseReads_50 rfl 2 rfl ?_
          refine Ex_bipush (v := 108) dX2_loseReads_51 (by decide) ?_
          refine Ex_pV dX2_loseReads_53 lk_X2_174 rfl rfl rfl rfl ?_
          refine Ex_lv [0, 1] (lv' := [(0, .ref a0), (1, .ref r38)]) rfl ?_
          exact hj46 ()
-- QuorumAlmanac$Node.stepDown()V
def m_X2_stepDown (a0 : Nat) : Ms Unit :=
  pV [2] 6 a0 (.int 102) <|
  bn (ko [2] a0 (m_X2_loseReads a0)) fun _ =>
  rt ()
theorem hm_X2_stepDown : (yX2_stepDown.cls ≠ "java/lang/invoke/MethodHandle" ∧ yX2_stepDown.cls ≠ "java/lang/invoke/VarHandle" ∧ (parseMethodDescriptor yX2_stepDown.desc).map (fun d => d.parameters.length) = some 0) := by decide +kernel
set_option maxHeartbeats 4000000 in
set_option maxRecDepth 100000 in
theorem L_X2_stepDown {G : GT} (hG : GOK G) (a0 : Nat) : Cal G yX2_stepDown (ws_ yX2_stepDown cX2_stepDown 1 (Option.none : Option Jvm.ClassFile.FieldType)) 5 124 [.ref a0] rU (m_X2_stepDown a0) := by
  refine Cal_of hG (by decide +kernel) (Nat.le_of_ble_eq_true rfl) (lv0 := [(0, .ref a0)]) rfl (fun X σ0 => ?_)
  delta m_X2_stepDown
  refine Ex_aload_n dX2_stepDown_0 rfl 0 rfl ?_
  refine Ex_bipush (v := 102) dX2_stepDown_1 (by decide) ?_
  refine Ex_pV dX2_stepDown_3 lk_X2_19 rfl rfl rfl rfl ?_
  refine Ex_aload_n dX2_stepDown_6 rfl 0 rfl ?_
  refine Ex_bnU (Inv_V (L_X2_loseReads hG a0) (lw_V q1222 q1224 qs18 q50 q1225) oe_2 ⟨rfl, hm_X2_loseReads⟩ (by decide) (by decide) dX2_stepDown_7 rfl (Nat.le_of_ble_eq_true rfl)) (fun _ => ?_)
  exact Ex_vreturn dX2_stepDown_10 rfl
-- QuorumAlmanac$Node.follow(I)V
def m_X2_follow (a0 : Nat) (x1 : Int32) : Ms Unit :=
  bn (ko [2] a0 (m_X2_stepDown a0)) fun _ =>
  pV [2] 8 a0 (.int x1) <|
  pV [2] 9 a0 (.int (-1)) <|
  pV [2] 14 a0 (.int 0) <|
  pV [2] 15 a0 (.int (-1)) <|
  pV [2] 16 a0 (.int 0) <|
  rt ()
theorem hm_X2_follow : (yX2_follow.cls ≠ "java/lang/invoke/MethodHandle" ∧ yX2_follow.cls ≠ "java/lang/invoke/VarHandle" ∧ (parseMethodDescriptor yX2_follow.desc).map (fun d => d.parameters.length) = some 1) := by decide +kernel
set_option maxHeartbeats 4000000 in
set_option maxRecDepth 100000 in
theorem L_X2_follow {G : GT} (hG : GOK G) (a0 : Nat) (x1 : Int32) : Cal G yX2_follow (ws_ yX2_follow cX2_follow 2 (Option.none : Option Jvm.ClassFile.FieldType)) 6 144 [.ref a0, .int x1] rU (m_X2_follow a0 x1) := by
  refine Cal_of hG (by decide +kernel) (Nat.le_of_ble_eq_true rfl) (lv0 := [(0, .ref a0), (1, .int x1)]) rfl (fun X σ0 => ?_)
  delta m_X2_follow
  refine Ex_aload_n dX2_follow_0 rfl 0 rfl ?_
  refine Ex_bnU (Inv_V (L_X2_stepDown hG a0) (lw_V q1218 q1220 qs17 q50 q1221) oe_2 ⟨rfl, hm_X2_stepDown⟩ (by decide) (by decide) dX2_follow_1 rfl (Nat.le_of_ble_eq_true rfl)) (fun _ => ?_)
  refine Ex_aload_n dX2_follow_4 rfl 0 rfl ?_
  refine Ex_iload_n dX2_follow_5 rfl 1 rfl ?_
  refine Ex_pV dX2_follow_6 lk_X2_143 rfl rfl rfl rfl ?_
  refine Ex_aload_n dX2_follow_9 rfl 0 rfl ?_
  refine Ex_iconst (v := (-1)) dX2_follow_10 (by decide) ?_
  refine Ex_pV dX2_follow_11 lk_X2_23 rfl rfl rfl rfl ?_
  refine Ex_aload_n dX2_follow_14 rfl 0 rfl ?_
  refine Ex_iconst (v := 0) dX2_follow_15 (by decide) ?_
  refine Ex_pV dX2_follow_16 lk_X2_180 rfl rfl rfl rfl ?_
  refine Ex_aload_n dX2_follow_19 rfl 0 rfl ?_
  refine Ex_iconst (v := (-1)) dX2_follow_20 (by decide) ?_
  refine Ex_pV dX2_follow_21 lk_X2_44 rfl rfl rfl rfl ?_
  refine Ex_aload_n dX2_follow_24 rfl 0 rfl ?_
  refine Ex_iconst (v := 0) dX2_follow_25 (by decide) ?_
  refine Ex_pV dX2_follow_26 lk_X2_183 rfl rfl rfl rfl ?_
  exact Ex_vreturn dX2_follow_29 rfl
-- java/lang/Integer.bitCount(I)I
def m_J14_bitCount (x0 : Int32) : Ms Int32 :=
  rt ((((((((x0 - ((((x0 : Int32).toUInt32 >>> ((1 : Int32).toUInt32 &&& Int32.toUInt32 31)).toInt32) &&& 1431655765)) &&& 858993459) + (((((x0 - ((((x0 : Int32).toUInt32 >>> ((1 : Int32).toUInt32 &&& Int32.toUInt32 31)).toInt32) &&& 1431655765)) : Int32).toUInt32 >>> ((2 : Int32).toUInt32 &&& Int32.toUInt32 31)).toInt32) &&& 858993459)) + ((((((x0 - ((((x0 : Int32).toUInt32 >>> ((1 : Int32).toUInt32 &&& Int32.toUInt32 31)).toInt32) &&& 1431655765)) &&& 858993459) + (((((x0 - ((((x0 : Int32).toUInt32 >>> ((1 : Int32).toUInt32 &&& Int32.toUInt32 31)).toInt32) &&& 1431655765)) : Int32).toUInt32 >>> ((2 : Int32).toUInt32 &&& Int32.toUInt32 31)).toInt32) &&& 858993459)) : Int32).toUInt32 >>> ((4 : Int32).toUInt32 &&& Int32.toUInt32 31)).toInt32)) &&& 252645135) + ((((((((x0 - ((((x0 : Int32).toUInt32 >>> ((1 : Int32).toUInt32 &&& Int32.toUInt32 31)).toInt32) &&& 1431655765)) &&& 858993459) + (((((x0 - ((((x0 : Int32).toUInt32 >>> ((1 : Int32).toUInt32 &&& Int32.toUInt32 31)).toInt32) &&& 1431655765)) : Int32).toUInt32 >>> ((2 : Int32).toUInt32 &&& Int32.toUInt32 31)).toInt32) &&& 858993459)) + ((((((x0 - ((((x0 : Int32).toUInt32 >>> ((1 : Int32).toUInt32 &&& Int32.toUInt32 31)).toInt32) &&& 1431655765)) &&& 858993459) + (((((x0 - ((((x0 : Int32).toUInt32 >>> ((1 : Int32).toUInt32 &&& Int32.toUInt32 31)).toInt32) &&& 1431655765)) : Int32).toUInt32 >>> ((2 : Int32).toUInt32 &&& Int32.toUInt32 31)).toInt32) &&& 858993459)) : Int32).toUInt32 >>> ((4 : Int32).toUInt32 &&& Int32.toUInt32 31)).toInt32)) &&& 252645135) : Int32).toUInt32 >>> ((8 : Int32).toUInt32 &&& Int32.toUInt32 31)).toInt32)) + (((((((((x0 - ((((x0 : Int32).toUInt32 >>> ((1 : Int32).toUInt32 &&& Int32.toUInt32 31)).toInt32) &&& 1431655765)) &&& 858993459) + (((((x0 - ((((x0 : Int32).toUInt32 >>> ((1 : Int32).toUInt32 &&& Int32.toUInt32 31)).toInt32) &&& 1431655765)) : Int32).toUInt32 >>> ((2 : Int32).toUInt32 &&& Int32.toUInt32 31)).toInt32) &&& 858993459)) + ((((((x0 - ((((x0 : Int32).toUInt32 >>> ((1 : Int32).toUInt32 &&& Int32.toUInt32 31)).toInt32) &&& 1431655765)) &&& 858993459) + (((((x0 - ((((x0 : Int32).toUInt32 >>> ((1 : Int32).toUInt32 &&& Int32.toUInt32 31)).toInt32) &&& 1431655765)) : Int32).toUInt32 >>> ((2 : Int32).toUInt32 &&& Int32.toUInt32 31)).toInt32) &&& 858993459)) : Int32).toUInt32 >>> ((4 : Int32).toUInt32 &&& Int32.toUInt32 31)).toInt32)) &&& 252645135) + ((((((((x0 - ((((x0 : Int32).toUInt32 >>> ((1 : Int32).toUInt32 &&& Int32.toUInt32 31)).toInt32) &&& 1431655765)) &&& 858993459) + (((((x0 - ((((x0 : Int32).toUInt32 >>> ((1 : Int32).toUInt32 &&& Int32.toUInt32 31)).toInt32) &&& 1431655765)) : Int32).toUInt32 >>> ((2 : Int32).toUInt32 &&& Int32.toUInt32 31)).toInt32) &&& 858993459)) + ((((((x0 - ((((x0 : Int32).toUInt32 >>> ((1 : Int32).toUInt32 &&& Int32.toUInt32 31)).toInt32) &&& 1431655765)) &&& 858993459) + (((((x0 - ((((x0 : Int32).toUInt32 >>> ((1 : Int32).toUInt32 &&& Int32.toUInt32 31)).toInt32) &&& 1431655765)) : Int32).toUInt32 >>> ((2 : Int32).toUInt32 &&& Int32.toUInt32 31)).toInt32) &&& 858993459)) : Int32).toUInt32 >>> ((4 : Int32).toUInt32 &&& Int32.toUInt32 31)).toInt32)) &&& 252645135) : Int32).toUInt32 >>> ((8 : Int32).toUInt32 &&& Int32.toUInt32 31)).toInt32)) : Int32).toUInt32 >>> ((16 : Int32).toUInt32 &&& Int32.toUInt32 31)).toInt32)) &&& 63)
theorem hm_J14_bitCount : (yJ14_bitCount.cls ≠ "java/lang/invoke/MethodHandle" ∧ yJ14_bitCount.cls ≠ "java/lang/invoke/VarHandle" ∧ (parseMethodDescriptor yJ14_bitCount.desc).map (fun d => d.parameters.length) = some 1) := by decide +kernel
set_option maxHeartbeats 4000000 in
set_option maxRecDepth 100000 in
theorem L_J14_bitCount {G : GT} (hG : GOK G) (x0 : Int32) : Cal G yJ14_bitCount (ws_ yJ14_bitCount cJ14_bitCount 1 (Option.some Jvm.ClassFile.FieldType.int)) 2 60 [.int x0] rI (m_J14_bitCount x0) := by
  refine Cal_of hG (by decide +kernel) (Nat.le_of_ble_eq_true rfl) (lv0 := [(0, .int x0)]) rfl (fun X σ0 => ?_)
  delta m_J14_bitCount
  refine Ex_iload_n dJ14_bitCount_0 rfl 0 rfl ?_
  refine Ex_iload_n dJ14_bitCount_1 rfl 0 rfl ?_
  refine Ex_iconst (v := 1) dJ14_bitCount_2 (by decide) ?_
  refine Ex_iushr dJ14_bitCount_3 ?_
  refine Ex_ldcwi (v := 1431655765) q1145 dJ14_bitCount_4 ?_
  refine Ex_iand dJ14_bitCount_7 ?_
  refine Ex_isub dJ14_bitCount_8 ?_
  refine Ex_istore_n (lv' := [(0, .int (x0 - ((((x0 : Int32).toUInt32 >>> ((1 : Int32).toUInt32 &&& Int32.toUInt32 31)).toInt32) &&& 1431655765)))]) dJ14_bitCount_9 rfl (by decide) [0] rfl ?_
  refine Ex_iload_n dJ14_bitCount_10 rfl 0 rfl ?_
  refine Ex_ldcwi (v := 858993459) q1146 dJ14_bitCount_11 ?_
  refine Ex_iand dJ14_bitCount_14 ?_
  refine Ex_iload_n dJ14_bitCount_15 rfl 0 rfl ?_
  refine Ex_iconst (v := 2) dJ14_bitCount_16 (by decide) ?_
  refine Ex_iushr dJ14_bitCount_17 ?_
  refine Ex_ldcwi (v := 858993459) q1146 dJ14_bitCount_18 ?_
  refine Ex_iand dJ14_bitCount_21 ?_
  refine Ex_iadd dJ14_bitCount_22 ?_
  refine Ex_istore_n (lv' := [(0, .int (((x0 - ((((x0 : Int32).toUInt32 >>> ((1 : Int32).toUInt32 &&& Int32.toUInt32 31)).toInt32) &&& 1431655765)) &&& 858993459) + (((((x0 - ((((x0 : Int32).toUInt32 >>> ((1 : Int32).toUInt32 &&& Int32.toUInt32 31)).toInt32) &&& 1431655765)) : Int32).toUInt32 >>> ((2 : Int32).toUInt32 &&& Int32.toUInt32 31)).toInt32) &&& 858993459)))]) dJ14_bitCount_23 rfl (by decide) [0] rfl ?_
  refine Ex_iload_n dJ14_bitCount_24 rfl 0 rfl ?_
  refine Ex_iload_n dJ14_bitCount_25 rfl 0 rfl ?_
  refine Ex_iconst (v := 4) dJ14_bitCount_26 (by decide) ?_
  refine Ex_iushr dJ14_bitCount_27 ?_
  refine Ex_iadd dJ14_bitCount_28 ?_
  refine Ex_ldcwi (v := 252645135) q1147 dJ14_bitCount_29 ?_
  refine Ex_iand dJ14_bitCount_32 ?_
  refine Ex_istore_n (lv' := [(0, .int (((((x0 - ((((x0 : Int32).toUInt32 >>> ((1 : Int32).toUInt32 &&& Int32.toUInt32 31)).toInt32) &&& 1431655765)) &&& 858993459) + (((((x0 - ((((x0 : Int32).toUInt32 >>> ((1 : Int32).toUInt32 &&& Int32.toUInt32 31)).toInt32) &&& 1431655765)) : Int32).toUInt32 >>> ((2 : Int32).toUInt32 &&& Int32.toUInt32 31)).toInt32) &&& 858993459)) + ((((((x0 - ((((x0 : Int32).toUInt32 >>> ((1 : Int32).toUInt32 &&& Int32.toUInt32 31)).toInt32) &&& 1431655765)) &&& 858993459) + (((((x0 - ((((x0 : Int32).toUInt32 >>> ((1 : Int32).toUInt32 &&& Int32.toUInt32 31)).toInt32) &&& 1431655765)) : Int32).toUInt32 >>> ((2 : Int32).toUInt32 &&& Int32.toUInt32 31)).toInt32) &&& 858993459)) : Int32).toUInt32 >>> ((4 : Int32).toUInt32 &&& Int32.toUInt32 31)).toInt32)) &&& 252645135))]) dJ14_bitCount_33 rfl (by decide) [0] rfl ?_
  refine Ex_iload_n dJ14_bitCount_34 rfl 0 rfl ?_
  refine Ex_iload_n dJ14_bitCount_35 rfl 0 rfl ?_
  refine Ex_bipush (v := 8) dJ14_bitCount_36 (by decide) ?_
  refine Ex_iushr dJ14_bitCount_38 ?_
  refine Ex_iadd dJ14_bitCount_39 ?_
  refine Ex_istore_n (lv' := [(0, .int ((((((x0 - ((((x0 : Int32).toUInt32 >>> ((1 : Int32).toUInt32 &&& Int32.toUInt32 31)).toInt32) &&& 1431655765)) &&& 858993459) + (((((x0 - ((((x0 : Int32).toUInt32 >>> ((1 : Int32).toUInt32 &&& Int32.toUInt32 31)).toInt32) &&& 1431655765)) : Int32).toUInt32 >>> ((2 : Int32).toUInt32 &&& Int32.toUInt32 31)).toInt32) &&& 858993459)) + ((((((x0 - ((((x0 : Int32).toUInt32 >>> ((1 : Int32).toUInt32 &&& Int32.toUInt32 31)).toInt32) &&& 1431655765)) &&& 858993459) + (((((x0 - ((((x0 : Int32).toUInt32 >>> ((1 : Int32).toUInt32 &&& Int32.toUInt32 31)).toInt32) &&& 1431655765)) : Int32).toUInt32 >>> ((2 : Int32).toUInt32 &&& Int32.toUInt32 31)).toInt32) &&& 858993459)) : Int32).toUInt32 >>> ((4 : Int32).toUInt32 &&& Int32.toUInt32 31)).toInt32)) &&& 252645135) + ((((((((x0 - ((((x0 : Int32).toUInt32 >>> ((1 : Int32).toUInt32 &&& Int32.toUInt32 31)).toInt32) &&& 1431655765)) &&& 858993459) + (((((x0 - ((((x0 : Int32).toUInt32 >>> ((1 : Int32).toUInt32 &&& Int32.toUInt32 31)).toInt32) &&& 1431655765)) : Int32).toUInt32 >>> ((2 : Int32).toUInt32 &&& Int32.toUInt32 31)).toInt32) &&& 858993459)) + ((((((x0 - ((((x0 : Int32).toUInt32 >>> ((1 : Int32).toUInt32 &&& Int32.toUInt32 31)).toInt32) &&& 1431655765)) &&& 858993459) + (((((x0 - ((((x0 : Int32).toUInt32 >>> ((1 : Int32).toUInt32 &&& Int32.toUInt32 31)).toInt32) &&& 1431655765)) : Int32).toUInt32 >>> ((2 : Int32).toUInt32 &&& Int32.toUInt32 31)).toInt32) &&& 858993459)) : Int32).toUInt32 >>> ((4 : Int32).toUInt32 &&& Int32.toUInt32 31)).toInt32)) &&& 252645135) : Int32).toUInt32 >>> ((8 : Int32).toUInt32 &&& Int32.toUInt32 31)).toInt32)))]) dJ14_bitCount_40 rfl (by decide) [0] rfl ?_
  refine Ex_iload_n dJ14_bitCount_41 rfl 0 rfl ?_
  refine Ex_iload_n dJ14_bitCount_42 rfl 0 rfl ?_
  refine Ex_bipush (v := 16) dJ14_bitCount_43 (by decide) ?_
  refine Ex_iushr dJ14_bitCount_45 ?_
  refine Ex_iadd dJ14_bitCount_46 ?_
  refine Ex_istore_n (lv' := [(0, .int (((((((x0 - ((((x0 : Int32).toUInt32 >>> ((1 : Int32).toUInt32 &&& Int32.toUInt32 31)).toInt32) &&& 1431655765)) &&& 858993459) + (((((x0 - ((((x0 : Int32).toUInt32 >>> ((1 : Int32).toUInt32 &&& Int32.toUInt32 31)).toInt32) &&& 1431655765)) : Int32).toUInt32 >>> ((2 : Int32).toUInt32 &&& Int32.toUInt32 31)).toInt32) &&& 858993459)) + ((((((x0 - ((((x0 : Int32).toUInt32 >>> ((1 : Int32).toUInt32 &&& Int32.toUInt32 31)).toInt32) &&& 1431655765)) &&& 858993459) + (((((x0 - ((((x0 : Int32).toUInt32 >>> ((1 : Int32).toUInt32 &&& Int32.toUInt32 31)).toInt32) &&& 1431655765)) : Int32).toUInt32 >>> ((2 : Int32).toUInt32 &&& Int32.toUInt32 31)).toInt32) &&& 858993459)) : Int32).toUInt32 >>> ((4 : Int32).toUInt32 &&& Int32.toUInt32 31)).toInt32)) &&& 252645135) + ((((((((x0 - ((((x0 : Int32).toUInt32 >>> ((1 : Int32).toUInt32 &&& Int32.toUInt32 31)).toInt32) &&& 1431655765)) &&& 858993459) + (((((x0 - ((((x0 : Int32).toUInt32 >>> ((1 : Int32).toUInt32 &&& Int32.toUInt32 31)).toInt32) &&& 1431655765)) : Int32).toUInt32 >>> ((2 : Int32).toUInt32 &&& Int32.toUInt32 31)).toInt32) &&& 858993459)) + ((((((x0 - ((((x0 : Int32).toUInt32 >>> ((1 : Int32).toUInt32 &&& Int32.toUInt32 31)).toInt32) &&& 1431655765)) &&& 858993459) + (((((x0 - ((((x0 : Int32).toUInt32 >>> ((1 : Int32).toUInt32 &&& Int32.toUInt32 31)).toInt32) &&& 1431655765)) : Int32).toUInt32 >>> ((2 : Int32).toUInt32 &&& Int32.toUInt32 31)).toInt32) &&& 858993459)) : Int32).toUInt32 >>> ((4 : Int32).toUInt32 &&& Int32.toUInt32 31)).toInt32)) &&& 252645135) : Int32).toUInt32 >>> ((8 : Int32).toUInt32 &&& Int32.toUInt32 31)).toInt32)) + (((((((((x0 - ((((x0 : Int32).toUInt32 >>> ((1 : Int32).toUInt32 &&& Int32.toUInt32 31)).toInt32) &&& 1431655765)) &&& 858993459) + (((((x0 - ((((x0 : Int32).toUInt32 >>> ((1 : Int32).toUInt32 &&& Int32.toUInt32 31)).toInt32) &&& 1431655765)) : Int32).toUInt32 >>> ((2 : Int32).toUInt32 &&& Int32.toUInt32 31)).toInt32) &&& 858993459)) + ((((((x0 - ((((x0 : Int32).toUInt32 >>> ((1 : Int32).toUInt32 &&& Int32.toUInt32 31)).toInt32) &&& 1431655765)) &&& 858993459) + (((((x0 - ((((x0 : Int32).toUInt32 >>> ((1 : Int32).toUInt32 &&& Int32.toUInt32 31)).toInt32) &&& 1431655765)) : Int32).toUInt32 >>> ((2 : Int32).toUInt32 &&& Int32.toUInt32 31)).toInt32) &&& 858993459)) : Int32).toUInt32 >>> ((4 : Int32).toUInt32 &&& Int32.toUInt32 31)).toInt32)) &&& 252645135) + ((((((((x0 - ((((x0 : Int32).toUInt32 >>> ((1 : Int32).toUInt32 &&& Int32.toUInt32 31)).toInt32) &&& 1431655765)) &&& 858993459) + (((((x0 - ((((x0 : Int32).toUInt32 >>> ((1 : Int32).toUInt32 &&& Int32.toUInt32 31)).toInt32) &&& 1431655765)) : Int32).toUInt32 >>> ((2 : Int32).toUInt32 &&& Int32.toUInt32 31)).toInt32) &&& 858993459)) + ((((((x0 - ((((x0 : Int32).toUInt32 >>> ((1 : Int32).toUInt32 &&& Int32.toUInt32 31)).toInt32) &&& 1431655765)) &&& 858993459) + (((((x0 - ((((x0 : Int32).toUInt32 >>> ((1 : Int32).toUInt32 &&& Int32.toUInt32 31)).toInt32) &&& 1431655765)) : Int32).toUInt32 >>> ((2 : Int32).toUInt32 &&& Int32.toUInt32 31)).toInt32) &&& 858993459)) : Int32).toUInt32 >>> ((4 : Int32).toUInt32 &&& Int32.toUInt32 31)).toInt32)) &&& 252645135) : Int32).toUInt32 >>> ((8 : Int32).toUInt32 &&& Int32.toUInt32 31)).toInt32)) : Int32).toUInt32 >>> ((16 : Int32).toUInt32 &&& Int32.toUInt32 31)).toInt32)))]) dJ14_bitCount_47 rfl (by decide) [0] rfl ?_
  refine Ex_iload_n dJ14_bitCount_48 rfl 0 rfl ?_
  refine Ex_bipush (v := 63) dJ14_bitCount_49 (by decide) ?_
  refine Ex_iand dJ14_bitCount_51 ?_
  exact Ex_ireturn dJ14_bitCount_52 rfl
-- QuorumAlmanac$Members.isMajority(II)Z
def m_X3_isMajority_2 (x0 : Int32) (x1 : Int32) : Ms Int32 :=
  bn (m_J14_bitCount (x0 &&& x1)) fun r24 =>
  bn (m_J14_bitCount x0) fun r25 =>
  jn (fun (v26 : Int32) =>
      ck (v26 = 0 ∨ v26 = 1) <|
      rt v26)
    fun j27 =>
    if (2 * r24) ≤ r25 then
      j27 0
    else
      j27 1
theorem hm_X3_isMajority_2 : (yX3_isMajority_2.cls ≠ "java/lang/invoke/MethodHandle" ∧ yX3_isMajority_2.cls ≠ "java/lang/invoke/VarHandle" ∧ (parseMethodDescriptor yX3_isMajority_2.desc).map (fun d => d.parameters.length) = some 2) := by decide +kernel
set_option maxHeartbeats 4000000 in
set_option maxRecDepth 100000 in
theorem L_X3_isMajority_2 {G : GT} (hG : GOK G) (x0 : Int32) (x1 : Int32) : Cal G yX3_isMajority_2 (ws_ yX3_isMajority_2 cX3_isMajority_2 2 (Option.some Jvm.ClassFile.FieldType.boolean)) 3 80 [.int x0, .int x1] rI (m_X3_isMajority_2 x0 x1) := by
  refine Cal_of hG (by decide +kernel) (Nat.le_of_ble_eq_true rfl) (lv0 := [(0, .int x0), (1, .int x1)]) rfl (fun X σ0 => ?_)
  delta m_X3_isMajority_2
  refine Ex_iconst (v := 2) dX3_isMajority_2_0 (by decide) ?_
  refine Ex_iload_n dX3_isMajority_2_1 rfl 0 rfl ?_
  refine Ex_iload_n dX3_isMajority_2_2 rfl 1 rfl ?_
  refine Ex_iand dX3_isMajority_2_3 ?_
  refine Ex_bnI (Inv_S (L_J14_bitCount hG (x0 &&& x1)) (lw_S q1142 q1143 q68 q1144) hm_J14_bitCount (by decide) (by decide) dX3_isMajority_2_4 rfl (Nat.le_of_ble_eq_true rfl)) (fun r24 => ?_)
  refine Ex_imul dX3_isMajority_2_7 ?_
  refine Ex_iload_n dX3_isMajority_2_8 rfl 0 rfl ?_
  refine Ex_bnI (Inv_S (L_J14_bitCount hG x0) (lw_S q1142 q1143 q68 q1144) hm_J14_bitCount (by decide) (by decide) dX3_isMajority_2_9 rfl (Nat.le_of_ble_eq_true rfl)) (fun r25 => ?_)
  refine Ex_jn (γ := Int32) (pj := 20) (fun v26 => []) (fun v26 => [.int v26]) (fun v26 => ?_) (fun j27 hj27 => ?_)
  · refine Ex_ck (fun hz => ?_)
    exact Ex_zreturn dX3_isMajority_2_20 rfl (zok_n hz)
  · refine Ex_icmp_le (tgt := 19) dX3_isMajority_2_12 (by decide) ?_ ?_
    · refine Ex_iconst (v := 0) dX3_isMajority_2_19 (by decide) ?_
      refine Ex_lv [] (lv' := []) rfl ?_
      exact hj27 0
    · refine Ex_iconst (v := 1) dX3_isMajority_2_15 (by decide) ?_
      refine Ex_goto (tgt := 20) dX3_isMajority_2_16 (by decide) ?_
      refine Ex_lv [] (lv' := []) rfl ?_
      exact hj27 1
-- QuorumAlmanac$Members.isMajority(I)Z
def m_X3_isMajority (a0 : Nat) (x1 : Int32) : Ms Int32 :=
  gI [3] 19 a0 fun x30 =>
  bn (m_X3_isMajority_2 x30 x1) fun r31 =>
  jn (fun (v32 : Int32) =>
      ck (v32 = 0 ∨ v32 = 1) <|
      rt v32)
    fun j33 =>
    jn (fun (v34 : Unit) =>
        j33 0)
      fun j35 =>
      if r31 = 0 then
        j35 ()
      else
        gI [3] 18 a0 fun x36 =>
        jn (fun (v37 : Unit) =>
            j33 1)
          fun j38 =>
          if x36 = 0 then
            j38 ()
          else
            gI [3] 18 a0 fun x39 =>
            bn (m_X3_isMajority_2 x39 x1) fun r40 =>
            if r40 = 0 then
              j35 ()
            else
              j38 ()
theorem hm_X3_isMajority : (yX3_isMajority.cls ≠ "java/lang/invoke/MethodHandle" ∧ yX3_isMajority.cls ≠ "java/lang/invoke/VarHandle" ∧ (parseMethodDescriptor yX3_isMajority.desc).map (fun d => d.parameters.length) = some 1) := by decide +kernel
set_option maxHeartbeats 4000000 in
set_option maxRecDepth 100000 in
theorem L_X3_isMajority {G : GT} (hG : GOK G) (a0 : Nat) (x1 : Int32) : Cal G yX3_isMajority (ws_ yX3_isMajority cX3_isMajority 2 (Option.some Jvm.ClassFile.FieldType.boolean)) 4 101 [.ref a0, .int x1] rI (m_X3_isMajority a0 x1) := by
  refine Cal_of hG (by decide +kernel) (Nat.le_of_ble_eq_true rfl) (lv0 := [(0, .ref a0), (1, .int x1)]) rfl (fun X σ0 => ?_)
  delta m_X3_isMajority
  refine Ex_aload_n dX3_isMajority_0 rfl 0 rfl ?_
  refine Ex_gI dX3_isMajority_1 lk_X3_13 rfl (fun x30 => ?_)
  refine Ex_iload_n dX3_isMajority_4 rfl 1 rfl ?_
  refine Ex_bnI (Inv_S (L_X3_isMajority_2 hG x30 x1) (lw_S q1139 q1140 q51 q1141) hm_X3_isMajority_2 (by decide) (by decide) dX3_isMajority_5 rfl (Nat.le_of_ble_eq_true rfl)) (fun r31 => ?_)
  refine Ex_jn (γ := Int32) (pj := 34) (fun v32 => []) (fun v32 => [.int v32]) (fun v32 => ?_) (fun j33 hj33 => ?_)
  · refine Ex_ck (fun hz => ?_)
    exact Ex_zreturn dX3_isMajority_34 rfl (zok_n hz)
  · refine Ex_jn (γ := Unit) (pj := 33) (fun v34 => []) (fun v34 => []) (fun v34 => ?_) (fun j35 hj35 => ?_)
    · refine Ex_iconst (v := 0) dX3_isMajority_33 (by decide) ?_
      exact hj33 0
    · refine Ex_if_eq (tgt := 33) dX3_isMajority_8 (by decide) ?_ ?_
      · refine Ex_lv [] (lv' := []) rfl ?_
        exact hj35 ()
      · refine Ex_aload_n dX3_isMajority_11 rfl 0 rfl ?_
        refine Ex_gI dX3_isMajority_12 lk_X3_7 rfl (fun x36 => ?_)
        refine Ex_jn (γ := Unit) (pj := 29) (fun v37 => []) (fun v37 => []) (fun v37 => ?_) (fun j38 hj38 => ?_)
        · refine Ex_iconst (v := 1) dX3_isMajority_29 (by decide) ?_
          refine Ex_goto (tgt := 34) dX3_isMajority_30 (by decide) ?_
          exact hj33 1
        · refine Ex_if_eq (tgt := 29) dX3_isMajority_15 (by decide) ?_ ?_
          · refine Ex_lv [] (lv' := []) rfl ?_
            exact hj38 ()
          · refine Ex_aload_n dX3_isMajority_18 rfl 0 rfl ?_
            refine Ex_gI dX3_isMajority_19 lk_X3_7 rfl (fun x39 => ?_)
            refine Ex_iload_n dX3_isMajority_22 rfl 1 rfl ?_
            refine Ex_bnI (Inv_S (L_X3_isMajority_2 hG x39 x1) (lw_S q1139 q1140 q51 q1141) hm_X3_isMajority_2 (by decide) (by decide) dX3_isMajority_23 rfl (Nat.le_of_ble_eq_true rfl)) (fun r40 => ?_)
            refine Ex_if_eq (tgt := 33) dX3_isMajority_26 (by decide) ?_ ?_
            · refine Ex_lv [] (lv' := []) rfl ?_
              exact hj35 ()
            · refine Ex_lv [] (lv' := []) rfl ?_
              exact hj38 ()
-- java/util/ArrayList.clear()V
def m_J2_clear (a0 : Nat) : Ms Unit :=
  gI [22] 92 a0 fun x26 =>
  pV [22] 92 a0 (.int (x26 + 1)) <|
  gR [22] 145 a0 fun x27 =>
  gI [22] 93 a0 fun x28 =>
  pV [22] 93 a0 (.int 0) <|
  lp (fun j30 (v29 : Int32) =>
      if x28 ≤ v29 then
        rt ()
      else
        sV 32 x27 v29 .null <|
        j30 (v29 + 1))
    0
theorem hm_J2_clear : (yJ2_clear.cls ≠ "java/lang/invoke/MethodHandle" ∧ yJ2_clear.cls ≠ "java/lang/invoke/VarHandle" ∧ (parseMethodDescriptor yJ2_clear.desc).map (fun d => d.parameters.length) = some 0) := by decide +kernel
set_option maxHeartbeats 4000000 in
set_option maxRecDepth 100000 in
theorem L_J2_clear {G : GT} (hG : GOK G) (a0 : Nat) : Cal G yJ2_clear (ws_ yJ2_clear cJ2_clear 4 (Option.none : Option Jvm.ClassFile.FieldType)) 2 60 [.ref a0] rU (m_J2_clear a0) := by
  refine Cal_of hG (by decide +kernel) (Nat.le_of_ble_eq_true rfl) (lv0 := [(0, .ref a0)]) rfl (fun X σ0 => ?_)
  delta m_J2_clear
  refine Ex_aload_n dJ2_clear_0 rfl 0 rfl ?_
  refine Ex_dup rfl dJ2_clear_1 ?_
  refine Ex_gI dJ2_clear_2 lk_J2_63 rfl (fun x26 => ?_)
  refine Ex_iconst (v := 1) dJ2_clear_5 (by decide) ?_
  refine Ex_iadd dJ2_clear_6 ?_
  refine Ex_pV dJ2_clear_7 lk_J2_63 rfl rfl rfl rfl ?_
  refine Ex_aload_n dJ2_clear_10 rfl 0 rfl ?_
  refine Ex_gR dJ2_clear_11 lk_J2_9 rfl (fun x27 => ?_)
  refine Ex_astore_n (lv' := [(0, .ref a0), (1, .ref x27)]) dJ2_clear_14 rfl (by decide) [1, 0] rfl ?_
  refine Ex_aload_n dJ2_clear_15 rfl 0 rfl ?_
  refine Ex_gI dJ2_clear_16 lk_J2_48 rfl (fun x28 => ?_)
  refine Ex_istore_n (lv' := [(0, .ref a0), (1, .ref x27), (2, .int x28)]) dJ2_clear_19 rfl (by decide) [1, 2, 0] rfl ?_
  refine Ex_aload_n dJ2_clear_20 rfl 0 rfl ?_
  refine Ex_iconst (v := 0) dJ2_clear_21 (by decide) ?_
  refine Ex_dup_x1 rfl rfl dJ2_clear_22 ?_
  refine Ex_pV dJ2_clear_23 lk_J2_48 rfl rfl rfl rfl ?_
  refine Ex_istore_n (lv' := [(0, .ref a0), (1, .ref x27), (2, .int x28), (3, .int 0)]) dJ2_clear_26 rfl (by decide) [1, 2, 3, 0] rfl ?_
  refine Ex_lv [1, 2, 3] (lv' := [(1, .ref x27), (2, .int x28), (3, .int 0)]) rfl ?_
  refine Ex_lp (γ := Int32) (pj := 27) (fun v29 => [(1, .ref x27), (2, .int x28), (3, .int v29)]) (fun v29 => []) (fun j30 hj30 v29 => ?_) 0 rfl rfl
  refine Ex_iload_n dJ2_clear_27 rfl 2 rfl ?_
  refine Ex_iload_n dJ2_clear_28 rfl 1 rfl ?_
  refine Ex_icmp_ge (tgt := 42) dJ2_clear_29 (by decide) ?_ ?_
  · exact Ex_vreturn dJ2_clear_42 rfl
  · refine Ex_aload_n dJ2_clear_32 rfl 0 rfl ?_
    refine Ex_iload_n dJ2_clear_33 rfl 2 rfl ?_
    refine Ex_null dJ2_clear_34 ?_
    refine Ex_sN (j := 2) (C := "java/lang/Object") rfl dJ2_clear_35 ?_
    refine Ex_iinc (j := 2) (lv' := [(1, .ref x27), (2, .int x28), (3, .int (v29 + 1))]) dJ2_clear_36 rfl rfl (by decide) [1, 2, 0] rfl ?_
    refine Ex_goto (tgt := 27) dJ2_clear_39 (by decide) ?_
    exact hj30 (v29 + 1)
