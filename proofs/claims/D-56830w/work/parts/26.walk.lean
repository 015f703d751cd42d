-- QuorumAlmanacLaw.entryTerm(LQuorumAlmanac;II[J)I
def m_X0_entryTerm (a0 : Nat) (x1 : Int32) (x2 : Int32) (a3 : Nat) : Ms Int32 :=
  tr (ko [1] a0 (m_X1_entryTerm a0 x1 x2)) (fun r22 =>
    sV 35 a3 0 (.long r22.toInt64) <|
    rt 0) fun e q23 =>
    if e = 0 then
      rt 1
    else 
      if e = 3 then
        rt 2
      else fl
theorem hm_X0_entryTerm : (yX0_entryTerm.cls ≠ "java/lang/invoke/MethodHandle" ∧ yX0_entryTerm.cls ≠ "java/lang/invoke/VarHandle" ∧ (parseMethodDescriptor yX0_entryTerm.desc).map (fun d => d.parameters.length) = some 4) := by decide +kernel
set_option maxHeartbeats 4000000 in
set_option maxRecDepth 100000 in
theorem L_X0_entryTerm {G : GT} (hG : GOK G) (a0 : Nat) (x1 : Int32) (x2 : Int32) (a3 : Nat) : Cal G yX0_entryTerm (wsW_ yX0_entryTerm cX0_entryTerm 5 (Option.some Jvm.ClassFile.FieldType.int) [(0, 10, 13, 13), (0, 10, 17, 39)]) 10 190 [.ref a0, .int x1, .int x2, .ref a3] rI (m_X0_entryTerm a0 x1 x2 a3) := by
  refine Cal_ofH hG (by decide +kernel) (Nat.le_of_ble_eq_true rfl) (tb := [{ startPc := 0, endPc := 10, handlerPc := 13, catchType := 13 }, { startPc := 0, endPc := 10, handlerPc := 17, catchType := 39 }]) rfl (lv0 := [(0, .ref a0), (1, .int x1), (2, .int x2), (3, .ref a3)]) rfl (fun X σ0 => ?_)
  delta m_X0_entryTerm
  refine Ex_aload_n dX0_entryTerm_0 rfl 3 rfl ?_
  refine Ex_iconst (v := 0) dX0_entryTerm_1 (by decide) ?_
  refine Ex_aload_n dX0_entryTerm_2 rfl 0 rfl ?_
  refine Ex_iload_n dX0_entryTerm_3 rfl 1 rfl ?_
  refine Ex_iload_n dX0_entryTerm_4 rfl 2 rfl ?_
  refine Ex_trI (Inv_V (L_X1_entryTerm hG a0 x1 x2) (lw_V q1467 q1468 q1469 q45 q1470) oe_1 ⟨rfl, hm_X1_entryTerm⟩ (by decide) (by decide) dX0_entryTerm_5 rfl (Nat.le_of_ble_eq_true rfl)) (fun r22 => ?_) (fun e q23 => ?_)
  · refine Ex_i2l dX0_entryTerm_8 ?_
    refine Ex_last dX0_entryTerm_9 ?_
    refine Ex_goto (tgt := 21) dX0_entryTerm_10 (by decide) ?_
    refine Ex_iconst (v := 0) dX0_entryTerm_21 (by decide) ?_
    exact Ex_ireturn dX0_entryTerm_22 rfl
  · refine ExT_if (e0 := 0) ?_ ?_
    · refine ExT_catch (name := "java/lang/IndexOutOfBoundsException") [] { startPc := 0, endPc := 10, handlerPc := 13, catchType := 13 } [{ startPc := 0, endPc := 10, handlerPc := 17, catchType := 39 }] rfl (fun _ hz => nomatch hz) rfl (by decide) q784 q886 ?_
      refine Ex_astore (lv' := [(0, .ref a0), (1, .int x1), (2, .int x2), (3, .ref a3), (4, .ref q23)]) dX0_entryTerm_13 (by decide) [1, 2, 3, 4, 0] rfl ?_
      refine Ex_iconst (v := 1) dX0_entryTerm_15 (by decide) ?_
      exact Ex_ireturn dX0_entryTerm_16 rfl
    · refine ExT_if (e0 := 3) ?_ ?_
      · refine ExT_catch (name := "java/util/NoSuchElementException") [{ startPc := 0, endPc := 10, handlerPc := 13, catchType := 13 }] { startPc := 0, endPc := 10, handlerPc := 17, catchType := 39 } [] rfl (List.forall_mem_cons.mpr ⟨Or.inr ⟨by decide, "java/lang/IndexOutOfBoundsException", q784, nc_3_0⟩, fun _ hz => nomatch hz⟩) rfl (by decide) q1410 q1196 ?_
        refine Ex_astore (lv' := [(0, .ref a0), (1, .int x1), (2, .int x2), (3, .ref a3), (4, .ref q23)]) dX0_entryTerm_17 (by decide) [1, 2, 3, 4, 0] rfl ?_
        refine Ex_iconst (v := 2) dX0_entryTerm_19 (by decide) ?_
        exact Ex_ireturn dX0_entryTerm_20 rfl
      · exact ExT_fl
-- QuorumAlmanac.entryKind(II)C
def m_X1_entryKind (a0 : Nat) (x1 : Int32) (x2 : Int32) : Ms Int32 :=
  bd (ko [1] a0 (m_X1_entryOf a0 x1 x2)) fun r24 =>
  gI [9] 33 r24 fun x25 =>
  ck (0 ≤ Int32.toInt x25 ∧ Int32.toInt x25 < 65536) <|
  rt x25
theorem hm_X1_entryKind : (yX1_entryKind.cls ≠ "java/lang/invoke/MethodHandle" ∧ yX1_entryKind.cls ≠ "java/lang/invoke/VarHandle" ∧ (parseMethodDescriptor yX1_entryKind.desc).map (fun d => d.parameters.length) = some 2) := by decide +kernel
set_option maxHeartbeats 4000000 in
set_option maxRecDepth 100000 in
theorem L_X1_entryKind {G : GT} (hG : GOK G) (a0 : Nat) (x1 : Int32) (x2 : Int32) : Cal G yX1_entryKind (ws_ yX1_entryKind cX1_entryKind 3 (Option.some Jvm.ClassFile.FieldType.char)) 9 168 [.ref a0, .int x1, .int x2] rI (m_X1_entryKind a0 x1 x2) := by
  refine Cal_of hG (by decide +kernel) (Nat.le_of_ble_eq_true rfl) (lv0 := [(0, .ref a0), (1, .int x1), (2, .int x2)]) rfl (fun X σ0 => ?_)
  delta m_X1_entryKind
  refine Ex_aload_n dX1_entryKind_0 rfl 0 rfl ?_
  refine Ex_iload_n dX1_entryKind_1 rfl 1 rfl ?_
  refine Ex_iload_n dX1_entryKind_2 rfl 2 rfl ?_
  refine Ex_bdR (Inv_V (L_X1_entryOf hG a0 x1 x2) (lw_V q1471 q1473 qs25 q45 q1474) oe_1 ⟨rfl, hm_X1_entryOf⟩ (by decide) (by decide) dX1_entryKind_3 rfl (Nat.le_of_ble_eq_true rfl)) (fun _ hz => nomatch hz) (fun r24 => ?_)
  refine Ex_gI dX1_entryKind_6 lk_X1_192 rfl (fun x25 => ?_)
  refine Ex_ck (fun hz => ?_)
  exact Ex_zreturn dX1_entryKind_9 rfl (cok_n hz)
-- QuorumAlmanacLaw.entryKind(LQuorumAlmanac;II[J)I
def m_X0_entryKind (a0 : Nat) (x1 : Int32) (x2 : Int32) (a3 : Nat) : Ms Int32 :=
  tr (ko [1] a0 (m_X1_entryKind a0 x1 x2)) (fun r22 =>
    sV 35 a3 0 (.long r22.toInt64) <|
    rt 0) fun e q23 =>
    if e = 0 then
      rt 1
    else 
      if e = 3 then
        rt 2
      else fl
theorem hm_X0_entryKind : (yX0_entryKind.cls ≠ "java/lang/invoke/MethodHandle" ∧ yX0_entryKind.cls ≠ "java/lang/invoke/VarHandle" ∧ (parseMethodDescriptor yX0_entryKind.desc).map (fun d => d.parameters.length) = some 4) := by decide +kernel
set_option maxHeartbeats 4000000 in
set_option maxRecDepth 100000 in
theorem L_X0_entryKind {G : GT} (hG : GOK G) (a0 : Nat) (x1 : Int32) (x2 : Int32) (a3 : Nat) : Cal G yX0_entryKind (wsW_ yX0_entryKind cX0_entryKind 5 (Option.some Jvm.ClassFile.FieldType.int) [(0, 10, 13, 13), (0, 10, 17, 39)]) 10 190 [.ref a0, .int x1, .int x2, .ref a3] rI (m_X0_entryKind a0 x1 x2 a3) := by
  refine Cal_ofH hG (by decide +kernel) (Nat.le_of_ble_eq_true rfl) (tb := [{ startPc := 0, endPc := 10, handlerPc := 13, catchType := 13 }, { startPc := 0, endPc := 10, handlerPc := 17, catchType := 39 }]) rfl (lv0 := [(0, .ref a0), (1, .int x1), (2, .int x2), (3, .ref a3)]) rfl (fun X σ0 => ?_)
  delta m_X0_entryKind
  refine Ex_aload_n dX0_entryKind_0 rfl 3 rfl ?_
  refine Ex_iconst (v := 0) dX0_entryKind_1 (by decide) ?_
  refine Ex_aload_n dX0_entryKind_2 rfl 0 rfl ?_
  refine Ex_iload_n dX0_entryKind_3 rfl 1 rfl ?_
  refine Ex_iload_n dX0_entryKind_4 rfl 2 rfl ?_
  refine Ex_trI (Inv_V (L_X1_entryKind hG a0 x1 x2) (lw_V q1479 q1480 q1481 q45 q1482) oe_1 ⟨rfl, hm_X1_entryKind⟩ (by decide) (by decide) dX0_entryKind_5 rfl (Nat.le_of_ble_eq_true rfl)) (fun r22 => ?_) (fun e q23 => ?_)
  · refine Ex_i2l dX0_entryKind_8 ?_
    refine Ex_last dX0_entryKind_9 ?_
    refine Ex_goto (tgt := 21) dX0_entryKind_10 (by decide) ?_
    refine Ex_iconst (v := 0) dX0_entryKind_21 (by decide) ?_
    exact Ex_ireturn dX0_entryKind_22 rfl
  · refine ExT_if (e0 := 0) ?_ ?_
    · refine ExT_catch (name := "java/lang/IndexOutOfBoundsException") [] { startPc := 0, endPc := 10, handlerPc := 13, catchType := 13 } [{ startPc := 0, endPc := 10, handlerPc := 17, catchType := 39 }] rfl (fun _ hz => nomatch hz) rfl (by decide) q784 q886 ?_
      refine Ex_astore (lv' := [(0, .ref a0), (1, .int x1), (2, .int x2), (3, .ref a3), (4, .ref q23)]) dX0_entryKind_13 (by decide) [1, 2, 3, 4, 0] rfl ?_
      refine Ex_iconst (v := 1) dX0_entryKind_15 (by decide) ?_
      exact Ex_ireturn dX0_entryKind_16 rfl
    · refine ExT_if (e0 := 3) ?_ ?_
      · refine ExT_catch (name := "java/util/NoSuchElementException") [{ startPc := 0, endPc := 10, handlerPc := 13, catchType := 13 }] { startPc := 0, endPc := 10, handlerPc := 17, catchType := 39 } [] rfl (List.forall_mem_cons.mpr ⟨Or.inr ⟨by decide, "java/lang/IndexOutOfBoundsException", q784, nc_3_0⟩, fun _ hz => nomatch hz⟩) rfl (by decide) q1410 q1196 ?_
        refine Ex_astore (lv' := [(0, .ref a0), (1, .int x1), (2, .int x2), (3, .ref a3), (4, .ref q23)]) dX0_entryKind_17 (by decide) [1, 2, 3, 4, 0] rfl ?_
        refine Ex_iconst (v := 2) dX0_entryKind_19 (by decide) ?_
        exact Ex_ireturn dX0_entryKind_20 rfl
      · exact ExT_fl
-- java/util/ArrayList.isEmpty()Z
def m_J2_isEmpty (a0 : Nat) : Ms Int32 :=
  gI [22] 93 a0 fun x22 =>
  jn (fun (v23 : Int32) =>
      ck (v23 = 0 ∨ v23 = 1) <|
      rt v23)
    fun j24 =>
    if ¬ x22 = 0 then
      j24 0
    else
      j24 1
theorem hm_J2_isEmpty : (yJ2_isEmpty.cls ≠ "java/lang/invoke/MethodHandle" ∧ yJ2_isEmpty.cls ≠ "java/lang/invoke/VarHandle" ∧ (parseMethodDescriptor yJ2_isEmpty.desc).map (fun d => d.parameters.length) = some 0) := by decide +kernel
set_option maxHeartbeats 4000000 in
set_option maxRecDepth 100000 in
theorem L_J2_isEmpty {G : GT} (hG : GOK G) (a0 : Nat) : Cal G yJ2_isEmpty (ws_ yJ2_isEmpty cJ2_isEmpty 1 (Option.some Jvm.ClassFile.FieldType.boolean)) 2 60 [.ref a0] rI (m_J2_isEmpty a0) := by
  refine Cal_of hG (by decide +kernel) (Nat.le_of_ble_eq_true rfl) (lv0 := [(0, .ref a0)]) rfl (fun X σ0 => ?_)
  delta m_J2_isEmpty
  refine Ex_aload_n dJ2_isEmpty_0 rfl 0 rfl ?_
  refine Ex_gI dJ2_isEmpty_1 lk_J2_48 rfl (fun x22 => ?_)
  refine Ex_jn (γ := Int32) (pj := 12) (fun v23 => []) (fun v23 => [.int v23]) (fun v23 => ?_) (fun j24 hj24 => ?_)
  · refine Ex_ck (fun hz => ?_)
    exact Ex_zreturn dJ2_isEmpty_12 rfl (zok_n hz)
  · refine Ex_if_ne (tgt := 11) dJ2_isEmpty_4 (by decide) ?_ ?_
    · refine Ex_iconst (v := 0) dJ2_isEmpty_11 (by decide) ?_
      refine Ex_lv [] (lv' := []) rfl ?_
      exact hj24 0
    · refine Ex_iconst (v := 1) dJ2_isEmpty_7 (by decide) ?_
      refine Ex_goto (tgt := 12) dJ2_isEmpty_8 (by decide) ?_
      refine Ex_lv [] (lv' := []) rfl ?_
      exact hj24 1
-- QuorumAlmanac.earliest()I
def m_X1_earliest (a0 : Nat) : Ms Int32 :=
  gR [1] 105 a0 fun x30 =>
  bn (ko [22] x30 (m_J2_isEmpty x30)) fun r31 =>
  jn (fun (v32 : Int32) =>
      bd (m_X1_requireElement v32) fun _ =>
      gR [1] 105 a0 fun x34 =>
      bn (ko [22] x34 (m_J2_get x34 0)) fun r35 =>
      ko [6, 7, 8, 10, 12] r35 <|
      gI [6, 7, 8, 10, 12] 22 r35 fun x36 =>
      rt x36)
    fun j33 =>
    if ¬ r31 = 0 then
      j33 0
    else
      j33 1
theorem hm_X1_earliest : (yX1_earliest.cls ≠ "java/lang/invoke/MethodHandle" ∧ yX1_earliest.cls ≠ "java/lang/invoke/VarHandle" ∧ (parseMethodDescriptor yX1_earliest.desc).map (fun d => d.parameters.length) = some 0) := by decide +kernel
set_option maxHeartbeats 4000000 in
set_option maxRecDepth 100000 in
theorem L_X1_earliest {G : GT} (hG : GOK G) (a0 : Nat) : Cal G yX1_earliest (ws_ yX1_earliest cX1_earliest 1 (Option.some Jvm.ClassFile.FieldType.int)) 7 124 [.ref a0] rI (m_X1_earliest a0) := by
  refine Cal_of hG (by decide +kernel) (Nat.le_of_ble_eq_true rfl) (lv0 := [(0, .ref a0)]) rfl (fun X σ0 => ?_)
  delta m_X1_earliest
  refine Ex_aload_n dX1_earliest_0 rfl 0 rfl ?_
  refine Ex_gR dX1_earliest_1 lk_X1_42 rfl (fun x30 => ?_)
  refine Ex_bnI (Inv_V (L_J2_isEmpty hG x30) (lw_V q1490 q1491 q1492 q48 q1493) oe_22 ⟨rfl, hm_J2_isEmpty⟩ (by decide) (by decide) dX1_earliest_4 rfl (Nat.le_of_ble_eq_true rfl)) (fun r31 => ?_)
  refine Ex_jn (γ := Int32) (pj := 15) (fun v32 => [(0, .ref a0)]) (fun v32 => [.int v32]) (fun v32 => ?_) (fun j33 hj33 => ?_)
  · refine Ex_bdU (Inv_S (L_X1_requireElement hG v32) (lw_S q1415 q1416 q45 q1417) hm_X1_requireElement (by decide) (by decide) dX1_earliest_15 rfl (Nat.le_of_ble_eq_true rfl)) (fun _ hz => nomatch hz) (fun _ => ?_)
    refine Ex_aload_n dX1_earliest_18 rfl 0 rfl ?_
    refine Ex_gR dX1_earliest_19 lk_X1_42 rfl (fun x34 => ?_)
    refine Ex_iconst (v := 0) dX1_earliest_22 (by decide) ?_
    refine Ex_bnR (Inv_V (L_J2_get hG x34 0) (lw_V q777 q415 q416 q48 q417) oe_22 ⟨rfl, hm_J2_get⟩ (by decide) (by decide) dX1_earliest_23 rfl (Nat.le_of_ble_eq_true rfl)) (fun r35 => ?_)
    refine Ex_ko dX1_earliest_26 q1494 oc_QuorumAlmanac_Message_6_7_8_10_12 ?_
    refine Ex_gI dX1_earliest_29 lk_X1_211 rfl (fun x36 => ?_)
    exact Ex_ireturn dX1_earliest_32 rfl
  · refine Ex_if_ne (tgt := 14) dX1_earliest_7 (by decide) ?_ ?_
    · refine Ex_iconst (v := 0) dX1_earliest_14 (by decide) ?_
      exact hj33 0
    · refine Ex_iconst (v := 1) dX1_earliest_10 (by decide) ?_
      refine Ex_goto (tgt := 15) dX1_earliest_11 (by decide) ?_
      exact hj33 1
-- QuorumAlmanacLaw.earliest(LQuorumAlmanac;[J)I
def m_X0_earliest (a0 : Nat) (a1 : Nat) : Ms Int32 :=
  tr (ko [1] a0 (m_X1_earliest a0)) (fun r22 =>
    sV 35 a1 0 (.long r22.toInt64) <|
    rt 0) fun e q23 =>
    if e = 3 then
      rt 1
    else fl
theorem hm_X0_earliest : (yX0_earliest.cls ≠ "java/lang/invoke/MethodHandle" ∧ yX0_earliest.cls ≠ "java/lang/invoke/VarHandle" ∧ (parseMethodDescriptor yX0_earliest.desc).map (fun d => d.parameters.length) = some 2) := by decide +kernel
set_option maxHeartbeats 4000000 in
set_option maxRecDepth 100000 in
theorem L_X0_earliest {G : GT} (hG : GOK G) (a0 : Nat) (a1 : Nat) : Cal G yX0_earliest (wsW_ yX0_earliest cX0_earliest 3 (Option.some Jvm.ClassFile.FieldType.int) [(0, 8, 11, 39)]) 8 144 [.ref a0, .ref a1] rI (m_X0_earliest a0 a1) := by
  refine Cal_ofH hG (by decide +kernel) (Nat.le_of_ble_eq_true rfl) (tb := [{ startPc := 0, endPc := 8, handlerPc := 11, catchType := 39 }]) rfl (lv0 := [(0, .ref a0), (1, .ref a1)]) rfl (fun X σ0 => ?_)
  delta m_X0_earliest
  refine Ex_aload_n dX0_earliest_0 rfl 1 rfl ?_
  refine Ex_iconst (v := 0) dX0_earliest_1 (by decide) ?_
  refine Ex_aload_n dX0_earliest_2 rfl 0 rfl ?_
  refine Ex_trI (Inv_V (L_X1_earliest hG a0) (lw_V q1486 q1487 q1488 q45 q1489) oe_1 ⟨rfl, hm_X1_earliest⟩ (by decide) (by decide) dX0_earliest_3 rfl (Nat.le_of_ble_eq_true rfl)) (fun r22 => ?_) (fun e q23 => ?_)
  · refine Ex_i2l dX0_earliest_6 ?_
    refine Ex_last dX0_earliest_7 ?_
    refine Ex_goto (tgt := 14) dX0_earliest_8 (by decide) ?_
    refine Ex_iconst (v := 0) dX0_earliest_14 (by decide) ?_
    exact Ex_ireturn dX0_earliest_15 rfl
  · refine ExT_if (e0 := 3) ?_ ?_
    · refine ExT_catch (name := "java/util/NoSuchElementException") [] { startPc := 0, endPc := 8, handlerPc := 11, catchType := 39 } [] rfl (fun _ hz => nomatch hz) rfl (by decide) q1410 q1196 ?_
      refine Ex_astore_n (lv' := [(0, .ref a0), (1, .ref a1), (2, .ref q23)]) dX0_earliest_11 rfl (by decide) [1, 2, 0] rfl ?_
      refine Ex_iconst (v := 1) dX0_earliest_12 (by decide) ?_
      exact Ex_ireturn dX0_earliest_13 rfl
    · exact ExT_fl
-- QuorumAlmanac.message(I)LQuorumAlmanac$Message;
def m_X1_message (a0 : Nat) (x1 : Int32) : Ms Nat :=
  gR [1] 105 a0 fun x33 =>
  bn (ko [22] x33 (m_J2_iterator x33)) fun r34 =>
  lp (fun j36 (v35 : Option Nat) =>
      bn (ko [23] r34 (m_J17_hasNext r34)) fun r37 =>
      if r37 = 0 then
        jn (fun (v38 : Int32) =>
            bd (m_X1_requireElement v38) fun _ =>
            nn v35 fun a40 =>
            rt a40)
          fun j39 =>
          no v35 (
            j39 0) fun a41 =>
            j39 1
      else
        bn (ko [23] r34 (m_J17_next r34)) fun r43 =>
        ko [6, 7, 8, 10, 12] r43 <|
        gI [6, 7, 8, 10, 12] 22 r43 fun x44 =>
        jn (fun (v45 : Option Nat) =>
            j36 v45)
          fun j46 =>
          if ¬ x44 = x1 then
            j46 v35
          else
            j46 (some r43))
    none
theorem hm_X1_message : (yX1_message.cls ≠ "java/lang/invoke/MethodHandle" ∧ yX1_message.cls ≠ "java/lang/invoke/VarHandle" ∧ (parseMethodDescriptor yX1_message.desc).map (fun d => d.parameters.length) = some 1) := by decide +kernel
set_option maxHeartbeats 4000000 in
set_option maxRecDepth 100000 in
theorem L_X1_message {G : GT} (hG : GOK G) (a0 : Nat) (x1 : Int32) : Cal G yX1_message (ws_ yX1_message cX1_message 5 (Option.some (Jvm.ClassFile.FieldType.object "QuorumAlmanac$Message"))) 7 109 [.ref a0, .int x1] rR (m_X1_message a0 x1) := by
  refine Cal_of hG (by decide +kernel) (Nat.le_of_ble_eq_true rfl) (lv0 := [(0, .ref a0), (1, .int x1)]) rfl (fun X σ0 => ?_)
  delta m_X1_message
  refine Ex_null dX1_message_0 ?_
  refine Ex_astore_nN (lv' := [(0, .ref a0), (1, .int x1), (2, .null)]) dX1_message_1 rfl (by decide) [1, 2, 0] rfl ?_
  refine Ex_aload_n dX1_message_2 rfl 0 rfl ?_
  refine Ex_gR dX1_message_3 lk_X1_42 rfl (fun x33 => ?_)
  refine Ex_bnR (Inv_V (L_J2_iterator hG x33) (lw_V q1506 q1149 q1150 q48 q1151) oe_22 ⟨rfl, hm_J2_iterator⟩ (by decide) (by decide) dX1_message_6 rfl (Nat.le_of_ble_eq_true rfl)) (fun r34 => ?_)
  refine Ex_astore_n (lv' := [(0, .ref a0), (1, .int x1), (2, .null), (3, .ref r34)]) dX1_message_9 rfl (by decide) [1, 2, 3, 0] rfl ?_
  refine Ex_lv [1, 2, 3] (lv' := [(1, .int x1), (2, .null), (3, .ref r34)]) rfl ?_
  refine Ex_lp (γ := Option Nat) (pj := 10) (fun v35 => [(1, .int x1), (2, va_rf v35), (3, .ref r34)]) (fun v35 => []) (fun j36 hj36 v35 => ?_) none rfl rfl
  refine Ex_aload_n dX1_message_10 rfl 2 rfl ?_
  refine Ex_bnI (Inv_F (L_J17_hasNext hG r34) (lw_F q1508 q1176 q1178 q77 q1180) q1174 q1173 q1179 q1177 q1175 oe_23 hx_Iterator_hasNext (by decide) (by decide) dX1_message_11 rfl (Nat.le_of_ble_eq_true rfl)) (fun r37 => ?_)
  refine Ex_if_eq (tgt := 49) dX1_message_16 (by decide) ?_ ?_
  · refine Ex_aload_nO dX1_message_49 rfl 1 rfl ?_
    refine Ex_jn (γ := Int32) (pj := 58) (fun v38 => [(2, va_rf v35)]) (fun v38 => [.int v38]) (fun v38 => ?_) (fun j39 hj39 => ?_)
    · refine Ex_bdU (Inv_S (L_X1_requireElement hG v38) (lw_S q1415 q1416 q45 q1417) hm_X1_requireElement (by decide) (by decide) dX1_message_58 rfl (Nat.le_of_ble_eq_true rfl)) (fun _ hz => nomatch hz) (fun _ => ?_)
      refine Ex_aload_nO dX1_message_61 rfl 0 rfl ?_
      refine Ex_nn (fun a40 => ?_)
      exact Ex_areturn dX1_message_62 rfl (Or.inl ⟨_, rfl⟩)
    · rcases v35 with _ | a41
      · refine Ex_no_ifnullN (tgt := 57) dX1_message_50 (by decide) ?_
        refine Ex_iconst (v := 0) dX1_message_57 (by decide) ?_
        refine Ex_lv [1] (lv' := [(2, .null)]) rfl ?_
        exact hj39 0
      · refine Ex_no_ifnullR dX1_message_50 ?_
        refine Ex_iconst (v := 1) dX1_message_53 (by decide) ?_
        refine Ex_goto (tgt := 58) dX1_message_54 (by decide) ?_
        refine Ex_lv [1] (lv' := [(2, .ref a41)]) rfl ?_
        exact hj39 1
  · refine Ex_aload_n dX1_message_19 rfl 2 rfl ?_
    refine Ex_bnR (Inv_F (L_J17_next hG r34) (lw_F q1510 q1185 q1187 q77 q1189) q1184 q1183 q1188 q1186 q1175 oe_23 hx_Iterator_next (by decide) (by decide) dX1_message_20 rfl (Nat.le_of_ble_eq_true rfl)) (fun r43 => ?_)
    refine Ex_ko dX1_message_25 q1494 oc_QuorumAlmanac_Message_6_7_8_10_12 ?_
    refine Ex_astore (lv' := [(1, .int x1), (2, va_rf v35), (3, .ref r34), (4, .ref r43)]) dX1_message_28 (by decide) [1, 2, 3, 0] rfl ?_
    refine Ex_aload dX1_message_30 3 rfl ?_
    refine Ex_gI dX1_message_32 lk_X1_211 rfl (fun x44 => ?_)
    refine Ex_iload_n dX1_message_35 rfl 0 rfl ?_
    refine Ex_jn (γ := Option Nat) (pj := 45) (fun v45 => [(1, .int x1), (3, .ref r34)]) (fun v45 => [va_rf v45]) (fun v45 => ?_) (fun j46 hj46 => ?_)
    · refine Ex_astore_nO (lv' := [(1, .int x1), (2, va_rf v45), (3, .ref r34)]) dX1_message_45 rfl (by decide) [1, 0, 2] rfl ?_
      refine Ex_goto (tgt := 10) dX1_message_46 (by decide) ?_
      exact hj36 v45
    · refine Ex_icmp_ne (tgt := 44) dX1_message_36 (by decide) ?_ ?_
      · refine Ex_aload_nO dX1_message_44 rfl 1 rfl ?_
        refine Ex_lv [0, 2] (lv' := [(1, .int x1), (3, .ref r34)]) rfl ?_
        exact hj46 v35
      · refine Ex_aload dX1_message_39 3 rfl ?_
        refine Ex_goto (tgt := 45) dX1_message_41 (by decide) ?_
        refine Ex_lv [0, 2] (lv' := [(1, .int x1), (3, .ref r34)]) rfl ?_
        exact hj46 (some r43)
-- QuorumAlmanac$Install.kind()C
def m_X12_kind (a0 : Nat) : Ms Int32 :=
  rt 115
theorem hm_X12_kind : (yX12_kind.cls ≠ "java/lang/invoke/MethodHandle" ∧ yX12_kind.cls ≠ "java/lang/invoke/VarHandle" ∧ (parseMethodDescriptor yX12_kind.desc).map (fun d => d.parameters.length) = some 0) := by decide +kernel
set_option maxHeartbeats 4000000 in
set_option maxRecDepth 100000 in
theorem L_X12_kind {G : GT} (hG : GOK G) (a0 : Nat) : Cal G yX12_kind (ws_ yX12_kind cX12_kind 1 (Option.some Jvm.ClassFile.FieldType.char)) 2 60 [.ref a0] rI (m_X12_kind a0) := by
  refine Cal_of hG (by decide +kernel) (Nat.le_of_ble_eq_true rfl) (lv0 := [(0, .ref a0)]) rfl (fun X σ0 => ?_)
  delta m_X12_kind
  refine Ex_bipush (v := 115) dX12_kind_0 (by decide) ?_
  exact Ex_zreturn dX12_kind_2 rfl rfl
-- QuorumAlmanac$Append.kind()C
def m_X13_kind (a0 : Nat) : Ms Int32 :=
  rt 97
theorem hm_X13_kind : (yX13_kind.cls ≠ "java/lang/invoke/MethodHandle" ∧ yX13_kind.cls ≠ "java/lang/invoke/VarHandle" ∧ (parseMethodDescriptor yX13_kind.desc).map (fun d => d.parameters.length) = some 0) := by decide +kernel
set_option maxHeartbeats 4000000 in
set_option maxRecDepth 100000 in
theorem L_X13_kind {G : GT} (hG : GOK G) (a0 : Nat) : Cal G yX13_kind (ws_ yX13_kind cX13_kind 1 (Option.some Jvm.ClassFile.FieldType.char)) 2 60 [.ref a0] rI (m_X13_kind a0) := by
  refine Cal_of hG (by decide +kernel) (Nat.le_of_ble_eq_true rfl) (lv0 := [(0, .ref a0)]) rfl (fun X σ0 => ?_)
  delta m_X13_kind
  refine Ex_bipush (v := 97) dX13_kind_0 (by decide) ?_
  exact Ex_zreturn dX13_kind_2 rfl rfl
-- QuorumAlmanac$Wish.kind()C
def m_X14_kind (a0 : Nat) : Ms Int32 :=
  rt 118
theorem hm_X14_kind : (yX14_kind.cls ≠ "java/lang/invoke/MethodHandle" ∧ yX14_kind.cls ≠ "java/lang/invoke/VarHandle" ∧ (parseMethodDescriptor yX14_kind.desc).map (fun d => d.parameters.length) = some 0) := by decide +kernel
set_option maxHeartbeats 4000000 in
set_option maxRecDepth 100000 in
theorem L_X14_kind {G : GT} (hG : GOK G) (a0 : Nat) : Cal G yX14_kind (ws_ yX14_kind cX14_kind 1 (Option.some Jvm.ClassFile.FieldType.char)) 2 60 [.ref a0] rI (m_X14_kind a0) := by
  refine Cal_of hG (by decide +kernel) (Nat.le_of_ble_eq_true rfl) (lv0 := [(0, .ref a0)]) rfl (fun X σ0 => ?_)
  delta m_X14_kind
  refine Ex_bipush (v := 118) dX14_kind_0 (by decide) ?_
  exact Ex_zreturn dX14_kind_2 rfl rfl
-- QuorumAlmanac$Answer.kind()C
def m_X18_kind (a0 : Nat) : Ms Int32 :=
  rt 107
theorem hm_X18_kind : (yX18_kind.cls ≠ "java/lang/invoke/MethodHandle" ∧ yX18_kind.cls ≠ "java/lang/invoke/VarHandle" ∧ (parseMethodDescriptor yX18_kind.desc).map (fun d => d.parameters.length) = some 0) := by decide +kernel
set_option maxHeartbeats 4000000 in
set_option maxRecDepth 100000 in
theorem L_X18_kind {G : GT} (hG : GOK G) (a0 : Nat) : Cal G yX18_kind (ws_ yX18_kind cX18_kind 1 (Option.some Jvm.ClassFile.FieldType.char)) 2 60 [.ref a0] rI (m_X18_kind a0) := by
  refine Cal_of hG (by decide +kernel) (Nat.le_of_ble_eq_true rfl) (lv0 := [(0, .ref a0)]) rfl (fun X σ0 => ?_)
  delta m_X18_kind
  refine Ex_bipush (v := 107) dX18_kind_0 (by decide) ?_
  exact Ex_zreturn dX18_kind_2 rfl rfl
-- QuorumAlmanac$Voice.kind()C
def m_X20_kind (a0 : Nat) : Ms Int32 :=
  rt 121
theorem hm_X20_kind : (yX20_kind.cls ≠ "java/lang/invoke/MethodHandle" ∧ yX20_kind.cls ≠ "java/lang/invoke/VarHandle" ∧ (parseMethodDescriptor yX20_kind.desc).map (fun d => d.parameters.length) = some 0) := by decide +kernel
set_option maxHeartbeats 4000000 in
set_option maxRecDepth 100000 in
theorem L_X20_kind {G : GT} (hG : GOK G) (a0 : Nat) : Cal G yX20_kind (ws_ yX20_kind cX20_kind 1 (Option.some Jvm.ClassFile.FieldType.char)) 2 60 [.ref a0] rI (m_X20_kind a0) := by
  refine Cal_of hG (by decide +kernel) (Nat.le_of_ble_eq_true rfl) (lv0 := [(0, .ref a0)]) rfl (fun X σ0 => ?_)
  delta m_X20_kind
  refine Ex_bipush (v := 121) dX20_kind_0 (by decide) ?_
  exact Ex_zreturn dX20_kind_2 rfl rfl
-- QuorumAlmanac.kindOf(I)C
def m_X1_kindOf (a0 : Nat) (x1 : Int32) : Ms Int32 :=
  bd (ko [1] a0 (m_X1_message a0 x1)) fun r24 =>
  jn (fun (r25 : Int32) =>
      ck (0 ≤ Int32.toInt r25 ∧ Int32.toInt r25 < 65536) <|
      rt r25)
    fun j26 => (kq 6 r24 (bn (ko [6] r24 (m_X12_kind r24)) fun r25 => j26 r25)
    (kq 7 r24 (bn (ko [7] r24 (m_X13_kind r24)) fun r25 => j26 r25)
      (kq 8 r24 (bn (ko [8] r24 (m_X14_kind r24)) fun r25 => j26 r25)
        (kq 10 r24 (bn (ko [10] r24 (m_X18_kind r24)) fun r25 => j26 r25)
          (kq 12 r24 (bn (ko [12] r24 (m_X20_kind r24)) fun r25 => j26 r25)
            fl)))))
theorem hm_X1_kindOf : (yX1_kindOf.cls ≠ "java/lang/invoke/MethodHandle" ∧ yX1_kindOf.cls ≠ "java/lang/invoke/VarHandle" ∧ (parseMethodDescriptor yX1_kindOf.desc).map (fun d => d.parameters.length) = some 1) := by decide +kernel
set_option maxHeartbeats 4000000 in
set_option maxRecDepth 100000 in
theorem L_X1_kindOf {G : GT} (hG : GOK G) (a0 : Nat) (x1 : Int32) : Cal G yX1_kindOf (ws_ yX1_kindOf cX1_kindOf 2 (Option.some Jvm.ClassFile.FieldType.char)) 8 133 [.ref a0, .int x1] rI (m_X1_kindOf a0 x1) := by
  refine Cal_of hG (by decide +kernel) (Nat.le_of_ble_eq_true rfl) (lv0 := [(0, .ref a0), (1, .int x1)]) rfl (fun X σ0 => ?_)
  delta m_X1_kindOf
  refine Ex_aload_n dX1_kindOf_0 rfl 0 rfl ?_
  refine Ex_iload_n dX1_kindOf_1 rfl 1 rfl ?_
  refine Ex_bdR (Inv_V (L_X1_message hG a0 x1) (lw_V q1502 q1504 qs26 q45 q1505) oe_1 ⟨rfl, hm_X1_message⟩ (by decide) (by decide) dX1_kindOf_2 rfl (Nat.le_of_ble_eq_true rfl)) (fun _ hz => nomatch hz) (fun r24 => ?_)
  refine Ex_jn (pj := 8) (fun _ => [(0, .ref a0), (1, .int x1)]) (fun r25 => [.int r25]) (fun r25 => ?_) (fun j26 hj26 => ?_)
  · refine Ex_ck (fun hz => ?_)
    exact Ex_zreturn dX1_kindOf_8 rfl (cok_n hz)
  · refine Ex_kq ?_ ?_
    · exact Ex_bnI (Inv_U (L_X12_kind hG r24) q75 q1511 q1521 q1522 q1520 q1513 q1512 oe_6 hx_QuorumAlmanac_Message_kind (by decide) (by decide) dX1_kindOf_5 rfl (Nat.le_of_ble_eq_true rfl)) (fun r25 => hj26 r25)
    · refine Ex_kq ?_ ?_
      · exact Ex_bnI (Inv_U (L_X13_kind hG r24) q76 q1511 q1518 q1519 q1517 q1513 q1512 oe_7 hx_QuorumAlmanac_Message_kind (by decide) (by decide) dX1_kindOf_5 rfl (Nat.le_of_ble_eq_true rfl)) (fun r25 => hj26 r25)
      · refine Ex_kq ?_ ?_
        · exact Ex_bnI (Inv_U (L_X14_kind hG r24) q79 q1511 q1527 q1528 q1526 q1513 q1512 oe_8 hx_QuorumAlmanac_Message_kind (by decide) (by decide) dX1_kindOf_5 rfl (Nat.le_of_ble_eq_true rfl)) (fun r25 => hj26 r25)
        · refine Ex_kq ?_ ?_
          · exact Ex_bnI (Inv_U (L_X18_kind hG r24) q83 q1511 q1515 q1516 q1514 q1513 q1512 oe_10 hx_QuorumAlmanac_Message_kind (by decide) (by decide) dX1_kindOf_5 rfl (Nat.le_of_ble_eq_true rfl)) (fun r25 => hj26 r25)
          · refine Ex_kq ?_ ?_
            · exact Ex_bnI (Inv_U (L_X20_kind hG r24) q86 q1511 q1524 q1525 q1523 q1513 q1512 oe_12 hx_QuorumAlmanac_Message_kind (by decide) (by decide) dX1_kindOf_5 rfl (Nat.le_of_ble_eq_true rfl)) (fun r25 => hj26 r25)
            · exact Ex_fl
-- QuorumAlmanacLaw.kindOf(LQuorumAlmanac;I[J)I
def m_X0_kindOf (a0 : Nat) (x1 : Int32) (a2 : Nat) : Ms Int32 :=
  tr (ko [1] a0 (m_X1_kindOf a0 x1)) (fun r22 =>
    sV 35 a2 0 (.long r22.toInt64) <|
    rt 0) fun e q23 =>
    if e = 3 then
      rt 1
    else fl
theorem hm_X0_kindOf : (yX0_kindOf.cls ≠ "java/lang/invoke/MethodHandle" ∧ yX0_kindOf.cls ≠ "java/lang/invoke/VarHandle" ∧ (parseMethodDescriptor yX0_kindOf.desc).map (fun d => d.parameters.length) = some 3) := by decide +kernel
set_option maxHeartbeats 4000000 in
set_option maxRecDepth 100000 in
theorem L_X0_kindOf {G : GT} (hG : GOK G) (a0 : Nat) (x1 : Int32) (a2 : Nat) : Cal G yX0_kindOf (wsW_ yX0_kindOf cX0_kindOf 4 (Option.some Jvm.ClassFile.FieldType.int) [(0, 9, 12, 39)]) 9 154 [.ref a0, .int x1, .ref a2] rI (m_X0_kindOf a0 x1 a2) := by
  refine Cal_ofH hG (by decide +kernel) (Nat.le_of_ble_eq_true rfl) (tb := [{ startPc := 0, endPc := 9, handlerPc := 12, catchType := 39 }]) rfl (lv0 := [(0, .ref a0), (1, .int x1), (2, .ref a2)]) rfl (fun X σ0 => ?_)
  delta m_X0_kindOf
  refine Ex_aload_n dX0_kindOf_0 rfl 2 rfl ?_
  refine Ex_iconst (v := 0) dX0_kindOf_1 (by decide) ?_
  refine Ex_aload_n dX0_kindOf_2 rfl 0 rfl ?_
  refine Ex_iload_n dX0_kindOf_3 rfl 1 rfl ?_
  refine Ex_trI (Inv_V (L_X1_kindOf hG a0 x1) (lw_V q1498 q1499 q1500 q45 q1501) oe_1 ⟨rfl, hm_X1_kindOf⟩ (by decide) (by decide) dX0_kindOf_4 rfl (Nat.le_of_ble_eq_true rfl)) (fun r22 => ?_) (fun e q23 => ?_)
  · refine Ex_i2l dX0_kindOf_7 ?_
    refine Ex_last dX0_kindOf_8 ?_
    refine Ex_goto (tgt := 15) dX0_kindOf_9 (by decide) ?_
    refine Ex_iconst (v := 0) dX0_kindOf_15 (by decide) ?_
    exact Ex_ireturn dX0_kindOf_16 rfl
  · refine ExT_if (e0 := 3) ?_ ?_
    · refine ExT_catch (name := "java/util/NoSuchElementException") [] { startPc := 0, endPc := 9, handlerPc := 12, catchType := 39 } [] rfl (fun _ hz => nomatch hz) rfl (by decide) q1410 q1196 ?_
      refine Ex_astore_n (lv' := [(0, .ref a0), (1, .int x1), (2, .ref a2), (3, .ref q23)]) dX0_kindOf_12 rfl (by decide) [1, 2, 3, 0] rfl ?_
      refine Ex_iconst (v := 1) dX0_kindOf_13 (by decide) ?_
      exact Ex_ireturn dX0_kindOf_14 rfl
    · exact ExT_fl
-- QuorumAlmanac.between(I)I
def m_X1_between (a0 : Nat) (x1 : Int32) : Ms Int32 :=
  bd (ko [1] a0 (m_X1_message a0 x1)) fun r26 =>
  gI [6, 7, 8, 10, 12] 23 r26 fun x27 =>
  gI [6, 7, 8, 10, 12] 24 r26 fun x28 =>
  rt ((10 * x27) + x28)
theorem hm_X1_between : (yX1_between.cls ≠ "java/lang/invoke/MethodHandle" ∧ yX1_between.cls ≠ "java/lang/invoke/VarHandle" ∧ (parseMethodDescriptor yX1_between.desc).map (fun d => d.parameters.length) = some 1) := by decide +kernel
set_option maxHeartbeats 4000000 in
set_option maxRecDepth 100000 in
theorem L_X1_between {G : GT} (hG : GOK G) (a0 : Nat) (x1 : Int32) : Cal G yX1_between (ws_ yX1_between cX1_between 3 (Option.some Jvm.ClassFile.FieldType.int)) 8 133 [.ref a0, .int x1] rI (m_X1_between a0 x1) := by
  refine Cal_of hG (by decide +kernel) (Nat.le_of_ble_eq_true rfl) (lv0 := [(0, .ref a0), (1, .int x1)]) rfl (fun X σ0 => ?_)
  delta m_X1_between
  refine Ex_aload_n dX1_between_0 rfl 0 rfl ?_
  refine Ex_iload_n dX1_between_1 rfl 1 rfl ?_
  refine Ex_bdR (Inv_V (L_X1_message hG a0 x1) (lw_V q1502 q1504 qs26 q45 q1505) oe_1 ⟨rfl, hm_X1_message⟩ (by decide) (by decide) dX1_between_2 rfl (Nat.le_of_ble_eq_true rfl)) (fun _ hz => nomatch hz) (fun r26 => ?_)
  refine Ex_astore_n (lv' := [(0, .ref a0), (1, .int x1), (2, .ref r26)]) dX1_between_5 rfl (by decide) [1, 2, 0] rfl ?_
  refine Ex_bipush (v := 10) dX1_between_6 (by decide) ?_
  refine Ex_aload_n dX1_between_8 rfl 2 rfl ?_
  refine Ex_gI dX1_between_9 lk_X1_224 rfl (fun x27 => ?_)
  refine Ex_imul dX1_between_12 ?_
  refine Ex_aload_n dX1_between_13 rfl 2 rfl ?_
  refine Ex_gI dX1_between_14 lk_X1_227 rfl (fun x28 => ?_)
  refine Ex_iadd dX1_between_17 ?_
  exact Ex_ireturn dX1_between_18 rfl
-- QuorumAlmanacLaw.between(LQuorumAlmanac;I[J)I
def m_X0_between (a0 : Nat) (x1 : Int32) (a2 : Nat) : Ms Int32 :=
  tr (ko [1] a0 (m_X1_between a0 x1)) (fun r22 =>
    sV 35 a2 0 (.long r22.toInt64) <|
    rt 0) fun e q23 =>
    if e = 3 then
      rt 1
    else fl
theorem hm_X0_between : (yX0_between.cls ≠ "java/lang/invoke/MethodHandle" ∧ yX0_between.cls ≠ "java/lang/invoke/VarHandle" ∧ (parseMethodDescriptor yX0_between.desc).map (fun d => d.parameters.length) = some 3) := by decide +kernel
set_option maxHeartbeats 4000000 in
set_option maxRecDepth 100000 in
theorem L_X0_between {G : GT} (hG : GOK G) (a0 : Nat) (x1 : Int32) (a2 : Nat) : Cal G yX0_between (wsW_ yX0_between cX0_between 4 (Option.some Jvm.ClassFile.FieldType.int) [(0, 9, 12, 39)]) 9 155 [.ref a0, .int x1, .ref a2] rI (m_X0_between a0 x1 a2) := by
  refine Cal_ofH hG (by decide +kernel) (Nat.le_of_ble_eq_true rfl) (tb := [{ startPc := 0, endPc := 9, handlerPc := 12, catchType := 39 }]) rfl (lv0 := [(0, .ref a0), (1, .int x1), (2, .ref a2)]) rfl (fun X σ0 => ?_)
  delta m_X0_between
  refine Ex_aload_n dX0_between_0 rfl 2 rfl ?_
  refine Ex_iconst (v := 0) dX0_between_1 (by decide) ?_
  refine Ex_aload_n dX0_between_2 rfl 0 rfl ?_
  refine Ex_iload_n dX0_between_3 rfl 1 rfl ?_
  refine Ex_trI (Inv_V (L_X1_between hG a0 x1) (lw_V q1532 q1533 q1534 q45 q1535) oe_1 ⟨rfl, hm_X1_between⟩ (by decide) (by decide) dX0_between_4 rfl (Nat.le_of_ble_eq_true rfl)) (fun r22 => ?_) (fun e q23 => ?_)
  · refine Ex_i2l dX0_between_7 ?_
    refine Ex_last dX0_between_8 ?_
    refine Ex_goto (tgt := 15) dX0_between_9 (by decide) ?_
    refine Ex_iconst (v := 0) dX0_between_15 (by decide) ?_
    exact Ex_ireturn dX0_between_16 rfl
  · refine ExT_if (e0 := 3) ?_ ?_
    · refine ExT_catch (name := "java/util/NoSuchElementException") [] { startPc := 0, endPc := 9, handlerPc := 12, catchType := 39 } [] rfl (fun _ hz => nomatch hz) rfl (by decide) q1410 q1196 ?_
      refine Ex_astore_n (lv' := [(0, .ref a0), (1, .int x1), (2, .ref a2), (3, .ref q23)]) dX0_between_12 rfl (by decide) [1, 2, 3, 0] rfl ?_
      refine Ex_iconst (v := 1) dX0_between_13 (by decide) ?_
      exact Ex_ireturn dX0_between_14 rfl
    · exact ExT_fl
-- java/lang/Object.equals(Ljava/lang/Object;)Z
def m_J27_equals (a0 : Nat) (a1 : Nat) : Ms Int32 :=
  jn (fun (v20 : Int32) =>
      ck (v20 = 0 ∨ v20 = 1) <|
      rt v20)
    fun j21 =>
    if ¬ (some a0) = (some a1) then
      j21 0
    else
      j21 1
theorem hm_J27_equals : (yJ27_equals.cls ≠ "java/lang/invoke/MethodHandle" ∧ yJ27_equals.cls ≠ "java/lang/invoke/VarHandle" ∧ (parseMethodDescriptor yJ27_equals.desc).map (fun d => d.parameters.length) = some 1) := by decide +kernel
set_option maxHeartbeats 4000000 in
set_option maxRecDepth 100000 in
theorem L_J27_equals {G : GT} (hG : GOK G) (a0 : Nat) (a1 : Nat) : Cal G yJ27_equals (ws_ yJ27_equals cJ27_equals 2 (Option.some Jvm.ClassFile.FieldType.boolean)) 2 60 [.ref a0, .ref a1] rI (m_J27_equals a0 a1) := by
  refine Cal_of hG (by decide +kernel) (Nat.le_of_ble_eq_true rfl) (lv0 := [(0, .ref a0), (1, .ref a1)]) rfl (fun X σ0 => ?_)
  delta m_J27_equals
  refine Ex_aload_n dJ27_equals_0 rfl 0 rfl ?_
  refine Ex_aload_n dJ27_equals_1 rfl 1 rfl ?_
  refine Ex_jn (γ := Int32) (pj := 10) (fun v20 => []) (fun v20 => [.int v20]) (fun v20 => ?_) (fun j21 hj21 => ?_)
  · refine Ex_ck (fun hz => ?_)
    exact Ex_zreturn dJ27_equals_10 rfl (zok_n hz)
  · refine Ex_acmp_ne (rx := (some a0)) (ry := (some a1)) (tgt := 9) dJ27_equals_2 (by decide) ?_ ?_
    · refine Ex_iconst (v := 0) dJ27_equals_9 (by decide) ?_
      refine Ex_lv [] (lv' := []) rfl ?_
      exact hj21 0
    · refine Ex_iconst (v := 1) dJ27_equals_5 (by decide) ?_
      refine Ex_goto (tgt := 10) dJ27_equals_6 (by decide) ?_
      refine Ex_lv [] (lv' := []) rfl ?_
      exact hj21 1
-- java/util/ArrayList.remove(Ljava/lang/Object;)Z
def m_J2_remove_2 (a0 : Nat) (a1 : Nat) : Ms Int32 :=
  gR [22] 145 a0 fun x38 =>
  gI [22] 93 a0 fun x39 =>
  lp (fun j41 (v40 : Int32) =>
      if x39 ≤ v40 then
        rt 0
      else
        aR 32 x38 v40 fun x42 =>
        jn (fun (r43 : Int32) =>
            if r43 = 0 then
              j41 (v40 + 1)
            else
              bn (ko [22] a0 (m_J2_fastRemove a0 x38 v40)) fun _ =>
              rt 1)
          fun j44 => (kq 6 a1 (bn (ko [6] a1 (m_J27_equals a1 x42)) fun r43 => j44 r43)
          (kq 7 a1 (bn (ko [7] a1 (m_J27_equals a1 x42)) fun r43 => j44 r43)
            (kq 8 a1 (bn (ko [8] a1 (m_J27_equals a1 x42)) fun r43 => j44 r43)
              (kq 10 a1 (bn (ko [10] a1 (m_J27_equals a1 x42)) fun r43 => j44 r43)
                (kq 12 a1 (bn (ko [12] a1 (m_J27_equals a1 x42)) fun r43 => j44 r43)
                  (kq 19 a1 (bn (ko [19] a1 (m_J27_equals a1 x42)) fun r43 => j44 r43)
                    fl)))))))
    0
theorem hm_J2_remove_2 : (yJ2_remove_2.cls ≠ "java/lang/invoke/MethodHandle" ∧ yJ2_remove_2.cls ≠ "java/lang/invoke/VarHandle" ∧ (parseMethodDescriptor yJ2_remove_2.desc).map (fun d => d.parameters.length) = some 1) := by decide +kernel
set_option maxHeartbeats 4000000 in
set_option maxRecDepth 100000 in
theorem L_J2_remove_2 {G : GT} (hG : GOK G) (a0 : Nat) (a1 : Nat) : Cal G yJ2_remove_2 (ws_ yJ2_remove_2 cJ2_remove_2 5 (Option.some Jvm.ClassFile.FieldType.boolean)) 3 83 [.ref a0, .ref a1] rI (m_J2_remove_2 a0 a1) := by
  refine Cal_of hG (by decide +kernel) (Nat.le_of_ble_eq_true rfl) (lv0 := [(0, .ref a0), (1, .ref a1)]) rfl (fun X σ0 => ?_)
  delta m_J2_remove_2
  refine Ex_aload_n dJ2_remove_2_0 rfl 0 rfl ?_
  refine Ex_gR dJ2_remove_2_1 lk_J2_9 rfl (fun x38 => ?_)
  refine Ex_astore_n (lv' := [(0, .ref a0), (1, .ref a1), (2, .ref x38)]) dJ2_remove_2_4 rfl (by decide) [1, 2, 0] rfl ?_
  refine Ex_aload_n dJ2_remove_2_5 rfl 0 rfl ?_
  refine Ex_gI dJ2_remove_2_6 lk_J2_48 rfl (fun x39 => ?_)
  refine Ex_istore_n (lv' := [(0, .ref a0), (1, .ref a1), (2, .ref x38), (3, .int x39)]) dJ2_remove_2_9 rfl (by decide) [1, 2, 3, 0] rfl ?_
  refine Ex_iconst (v := 0) dJ2_remove_2_10 (by decide) ?_
  refine Ex_istore (lv' := [(0, .ref a0), (1, .ref a1), (2, .ref x38), (3, .int x39), (4, .int 0)]) dJ2_remove_2_11 (by decide) [1, 2, 3, 4, 0] rfl ?_
  refine Ex_aload_n dJ2_remove_2_13 rfl 1 rfl ?_
  refine lvx_ifnonnull (tgt := 39) dJ2_remove_2_14 (by decide) ?_
  refine Ex_lp (γ := Int32) (pj := 39) (fun v40 => [(0, .ref a0), (1, .ref a1), (2, .ref x38), (3, .int x39), (4, .int v40)]) (fun v40 => []) (fun j41 hj41 v40 => ?_) 0 rfl rfl
  refine Ex_iload dJ2_remove_2_39 4 rfl ?_
  refine Ex_iload_n dJ2_remove_2_41 rfl 3 rfl ?_
  refine Ex_icmp_ge (tgt := 65) dJ2_remove_2_42 (by decide) ?_ ?_
  · refine Ex_iconst (v := 0) dJ2_remove_2_65 (by decide) ?_
    exact Ex_zreturn dJ2_remove_2_66 rfl rfl
  · refine Ex_aload_n dJ2_remove_2_45 rfl 1 rfl ?_
    refine Ex_aload_n dJ2_remove_2_46 rfl 2 rfl ?_
    refine Ex_iload dJ2_remove_2_47 4 rfl ?_
    refine Ex_aR (j := 2) rfl rfl dJ2_remove_2_49 (fun x42 => ?_)
    refine Ex_jn (pj := 53) (fun _ => [(0, .ref a0), (1, .ref a1), (2, .ref x38), (3, .int x39), (4, .int v40)]) (fun r43 => [.int r43]) (fun r43 => ?_) (fun j44 hj44 => ?_)
    · refine Ex_if_eq (tgt := 59) dJ2_remove_2_53 (by decide) ?_ ?_
      · refine Ex_iinc (j := 4) (lv' := [(0, .ref a0), (1, .ref a1), (2, .ref x38), (3, .int x39), (4, .int (v40 + 1))]) dJ2_remove_2_59 rfl rfl (by decide) [1, 2, 3, 4, 0] rfl ?_
        refine Ex_goto (tgt := 39) dJ2_remove_2_62 (by decide) ?_
        exact hj41 (v40 + 1)
      · refine Ex_goto (tgt := 67) dJ2_remove_2_56 (by decide) ?_
        refine Ex_aload_n dJ2_remove_2_67 rfl 0 rfl ?_
        refine Ex_aload_n dJ2_remove_2_68 rfl 2 rfl ?_
        refine Ex_iload dJ2_remove_2_69 4 rfl ?_
        refine Ex_bnU (Inv_V (L_J2_fastRemove hG a0 x38 v40) (lw_V q1089 q1091 qs12 q48 q1092) oe_22 ⟨rfl, hm_J2_fastRemove⟩ (by decide) (by decide) dJ2_remove_2_71 rfl (Nat.le_of_ble_eq_true rfl)) (fun _ => ?_)
        refine Ex_iconst (v := 1) dJ2_remove_2_74 (by decide) ?_
        exact Ex_zreturn dJ2_remove_2_75 rfl rfl
    · refine Ex_kq ?_ ?_
      · exact Ex_bnI (Inv_U (L_J27_equals hG a1 x42) q2629 q1547 q635 q674 q641 q636 q633 oe_6 hx_Object_equals (by decide) (by decide) dJ2_remove_2_50 rfl (Nat.le_of_ble_eq_true rfl)) (fun r43 => hj44 r43)
      · refine Ex_kq ?_ ?_
        · exact Ex_bnI (Inv_U (L_J27_equals hG a1 x42) q2629 q1547 q635 q674 q639 q636 q633 oe_7 hx_Object_equals (by decide) (by decide) dJ2_remove_2_50 rfl (Nat.le_of_ble_eq_true rfl)) (fun r43 => hj44 r43)
        · refine Ex_kq ?_ ?_
          · exact Ex_bnI (Inv_U (L_J27_equals hG a1 x42) q2629 q1547 q635 q674 q653 q636 q633 oe_8 hx_Object_equals (by decide) (by decide) dJ2_remove_2_50 rfl (Nat.le_of_ble_eq_true rfl)) (fun r43 => hj44 r43)
          · refine Ex_kq ?_ ?_
            · exact Ex_bnI (Inv_U (L_J27_equals hG a1 x42) q2629 q1547 q635 q674 q638 q636 q633 oe_10 hx_Object_equals (by decide) (by decide) dJ2_remove_2_50 rfl (Nat.le_of_ble_eq_true rfl)) (fun r43 => hj44 r43)
            · refine Ex_kq ?_ ?_
              · exact Ex_bnI (Inv_U (L_J27_equals hG a1 x42) q2629 q1547 q635 q674 q652 q636 q633 oe_12 hx_Object_equals (by decide) (by decide) dJ2_remove_2_50 rfl (Nat.le_of_ble_eq_true rfl)) (fun r43 => hj44 r43)
              · refine Ex_kq ?_ ?_
                · exact Ex_bnI (Inv_U (L_J27_equals hG a1 x42) q2629 q1547 q635 q674 q656 q636 q633 oe_19 hx_Object_equals (by decide) (by decide) dJ2_remove_2_50 rfl (Nat.le_of_ble_eq_true rfl)) (fun r43 => hj44 r43)
                · exact Ex_fl
-- QuorumAlmanac$Message.come(LQuorumAlmanac$Node;)V
def m_X10_come (a0 : Nat) (a1 : Nat) : Ms Unit :=
  gI [6, 7, 8, 10, 12] 25 a0 fun x26 =>
  gI [2] 8 a1 fun x27 =>
  jn (fun (v28 : Unit) =>
      rt ())
    fun j29 =>
    if x26 ≤ x27 then
      j29 ()
    else
      gI [6, 7, 8, 10, 12] 25 a0 fun x30 =>
      bn (ko [2] a1 (m_X2_follow a1 x30)) fun _ =>
      j29 ()
theorem hm_X10_come : (yX10_come.cls ≠ "java/lang/invoke/MethodHandle" ∧ yX10_come.cls ≠ "java/lang/invoke/VarHandle" ∧ (parseMethodDescriptor yX10_come.desc).map (fun d => d.parameters.length) = some 1) := by decide +kernel
set_option maxHeartbeats 4000000 in
set_option maxRecDepth 100000 in
theorem L_X10_come {G : GT} (hG : GOK G) (a0 : Nat) (a1 : Nat) : Cal G yX10_come (ws_ yX10_come cX10_come 2 (Option.none : Option Jvm.ClassFile.FieldType)) 7 165 [.ref a0, .ref a1] rU (m_X10_come a0 a1) := by
  refine Cal_of hG (by decide +kernel) (Nat.le_of_ble_eq_true rfl) (lv0 := [(0, .ref a0), (1, .ref a1)]) rfl (fun X σ0 => ?_)
  delta m_X10_come
  refine Ex_aload_n dX10_come_0 rfl 0 rfl ?_
  refine Ex_gI dX10_come_1 lk_X10_19 rfl (fun x26 => ?_)
  refine Ex_aload_n dX10_come_4 rfl 1 rfl ?_
  refine Ex_gI dX10_come_5 lk_X10_22 rfl (fun x27 => ?_)
  refine Ex_jn (γ := Unit) (pj := 19) (fun v28 => []) (fun v28 => []) (fun v28 => ?_) (fun j29 hj29 => ?_)
  · exact Ex_vreturn dX10_come_19 rfl
  · refine Ex_icmp_le (tgt := 19) dX10_come_8 (by decide) ?_ ?_
    · refine Ex_lv [] (lv' := []) rfl ?_
      exact hj29 ()
    · refine Ex_aload_n dX10_come_11 rfl 1 rfl ?_
      refine Ex_aload_n dX10_come_12 rfl 0 rfl ?_
      refine Ex_gI dX10_come_13 lk_X10_19 rfl (fun x30 => ?_)
      refine Ex_bnU (Inv_V (L_X2_follow hG a1 x30) (lw_V q1559 q1215 q1216 q50 q1217) oe_2 ⟨rfl, hm_X2_follow⟩ (by decide) (by decide) dX10_come_16 rfl (Nat.le_of_ble_eq_true rfl)) (fun _ => ?_)
      refine Ex_lv [] (lv' := []) rfl ?_
      exact hj29 ()
-- QuorumAlmanac$Node.hear(LQuorumAlmanac$RoundMessage;)V
def m_X2_hear (a0 : Nat) (a1 : Nat) : Ms Unit :=
  pV [2] 6 a0 (.int 102) <|
  gI [2] 7 a0 fun x28 =>
  pV [2] 10 a0 (.int x28) <|
  gI [2] 7 a0 fun x29 =>
  pV [2] 11 a0 (.int x29) <|
  gI [6, 7, 10] 23 a1 fun x30 =>
  pV [2] 15 a0 (.int x30) <|
  gI [6, 7, 10] 26 a1 fun x31 =>
  pV [2] 16 a0 (.int x31) <|
  rt ()
theorem hm_X2_hear : (yX2_hear.cls ≠ "java/lang/invoke/MethodHandle" ∧ yX2_hear.cls ≠ "java/lang/invoke/VarHandle" ∧ (parseMethodDescriptor yX2_hear.desc).map (fun d => d.parameters.length) = some 1) := by decide +kernel
set_option maxHeartbeats 4000000 in
set_option maxRecDepth 100000 in
theorem L_X2_hear {G : GT} (hG : GOK G) (a0 : Nat) (a1 : Nat) : Cal G yX2_hear (ws_ yX2_hear cX2_hear 2 (Option.none : Option Jvm.ClassFile.FieldType)) 2 60 [.ref a0, .ref a1] rU (m_X2_hear a0 a1) := by
  refine Cal_of hG (by decide +kernel) (Nat.le_of_ble_eq_true rfl) (lv0 := [(0, .ref a0), (1, .ref a1)]) rfl (fun X σ0 => ?_)
  delta m_X2_hear
  refine Ex_aload_n dX2_hear_0 rfl 0 rfl ?_
  refine Ex_bipush (v := 102) dX2_hear_1 (by decide) ?_
  refine Ex_pV dX2_hear_3 lk_X2_19 rfl rfl rfl rfl ?_
  refine Ex_aload_n dX2_hear_6 rfl 0 rfl ?_
  refine Ex_aload_n dX2_hear_7 rfl 0 rfl ?_
  refine Ex_gI dX2_hear_8 lk_X2_186 rfl (fun x28 => ?_)
  refine Ex_pV dX2_hear_11 lk_X2_199 rfl rfl rfl rfl ?_
  refine Ex_aload_n dX2_hear_14 rfl 0 rfl ?_
  refine Ex_aload_n dX2_hear_15 rfl 0 rfl ?_
  refine Ex_gI dX2_hear_16 lk_X2_186 rfl (fun x29 => ?_)
  refine Ex_pV dX2_hear_19 lk_X2_27 rfl rfl rfl rfl ?_
  refine Ex_aload_n dX2_hear_22 rfl 0 rfl ?_
  refine Ex_aload_n dX2_hear_23 rfl 1 rfl ?_
  refine Ex_gI dX2_hear_24 lk_X2_276 rfl (fun x30 => ?_)
  refine Ex_pV dX2_hear_27 lk_X2_44 rfl rfl rfl rfl ?_
  refine Ex_aload_n dX2_hear_30 rfl 0 rfl ?_
  refine Ex_aload_n dX2_hear_31 rfl 1 rfl ?_
  refine Ex_gI dX2_hear_32 lk_X2_279 rfl (fun x31 => ?_)
  refine Ex_pV dX2_hear_35 lk_X2_183 rfl rfl rfl rfl ?_
  exact Ex_vreturn dX2_hear_38 rfl
-- QuorumAlmanac$Node.lower(LQuorumAlmanac$RoundMessage;)V
def m_X2_lower (a0 : Nat) (a1 : Nat) : Ms Unit :=
  gR [2] 115 a0 fun x38 =>
  gI [1] 1 x38 fun x39 =>
  pV [1] 1 x38 (.int (x39 + 1)) <|
  gR [2] 115 a0 fun x40 =>
  nO 10 7 dfl fun a41 =>
  gR [2] 115 a0 fun x42 =>
  bn (ko [1] x42 (m_X1_nextMessage x42)) fun r43 =>
  gI [2] 4 a0 fun x44 =>
  gI [6, 7, 10] 23 a1 fun x45 =>
  gI [2] 8 a0 fun x46 =>
  bn (m_X18_init a41 r43 x44 x45 x46 0 116 0) fun _ =>
  bn (ko [1] x40 (m_X1_send x40 a41)) fun _ =>
  rt ()
theorem hm_X2_lower : (yX2_lower.cls ≠ "java/lang/invoke/MethodHandle" ∧ yX2_lower.cls ≠ "java/lang/invoke/VarHandle" ∧ (parseMethodDescriptor yX2_lower.desc).map (fun d => d.parameters.length) = some 1) := by decide +kernel
set_option maxHeartbeats 4000000 in
set_option maxRecDepth 100000 in
theorem L_X2_lower {G : GT} (hG : GOK G) (a0 : Nat) (a1 : Nat) : Cal G yX2_lower (ws_ yX2_lower cX2_lower 2 (Option.none : Option Jvm.ClassFile.FieldType)) 9 212 [.ref a0, .ref a1] rU (m_X2_lower a0 a1) := by
  refine Cal_of hG (by decide +kernel) (Nat.le_of_ble_eq_true rfl) (lv0 := [(0, .ref a0), (1, .ref a1)]) rfl (fun X σ0 => ?_)
  delta m_X2_lower
  refine Ex_aload_n dX2_lower_0 rfl 0 rfl ?_
  refine Ex_gR dX2_lower_1 lk_X2_3 rfl (fun x38 => ?_)
  refine Ex_dup rfl dX2_lower_4 ?_
  refine Ex_gI dX2_lower_5 lk_X2_282 rfl (fun x39 => ?_)
  refine Ex_iconst (v := 1) dX2_lower_8 (by decide) ?_
  refine Ex_iadd dX2_lower_9 ?_
  refine Ex_pV dX2_lower_10 lk_X2_282 rfl rfl rfl rfl ?_
  refine Ex_aload_n dX2_lower_13 rfl 0 rfl ?_
  refine Ex_gR dX2_lower_14 lk_X2_3 rfl (fun x40 => ?_)
  refine Ex_nO (ci := 9) (q := qcl 9) dX2_lower_17 rfl q1323 q1324 q83 (fun a41 => ?_)
  refine Ex_dup rfl dX2_lower_20 ?_
  refine Ex_aload_n dX2_lower_21 rfl 0 rfl ?_
  refine Ex_gR dX2_lower_22 lk_X2_3 rfl (fun x42 => ?_)
  refine Ex_bnI (Inv_VN (L_X1_nextMessage hG x42) q45 q994 q996 q997 qs10 oe_1 hm_X1_nextMessage (by decide) (by decide) dX2_lower_25 rfl (Nat.le_of_ble_eq_true rfl)) (fun r43 => ?_)
  refine Ex_aload_n dX2_lower_28 rfl 0 rfl ?_
  refine Ex_gI dX2_lower_29 lk_X2_60 rfl (fun x44 => ?_)
  refine Ex_aload_n dX2_lower_32 rfl 1 rfl ?_
  refine Ex_gI dX2_lower_33 lk_X2_276 rfl (fun x45 => ?_)
  refine Ex_aload_n dX2_lower_36 rfl 0 rfl ?_
  refine Ex_gI dX2_lower_37 lk_X2_143 rfl (fun x46 => ?_)
  refine Ex_iconst (v := 0) dX2_lower_40 (by decide) ?_
  refine Ex_bipush (v := 116) dX2_lower_41 (by decide) ?_
  refine Ex_iconst (v := 0) dX2_lower_43 (by decide) ?_
  refine Ex_bnU (Inv_I (L_X18_init hG a41 r43 x44 x45 x46 0 116 0) q83 q1326 q1327 q1328 rfl hm_X18_init (by decide) (by decide) dX2_lower_44 rfl (Nat.le_of_ble_eq_true rfl)) (fun _ => ?_)
  refine Ex_bnU (Inv_VN (L_X1_send hG x40 a41) q45 q1080 q1082 q1083 qs11 oe_1 hm_X1_send (by decide) (by decide) dX2_lower_47 rfl (Nat.le_of_ble_eq_true rfl)) (fun _ => ?_)
  exact Ex_vreturn dX2_lower_50 rfl
-- QuorumAlmanac$RoundMessage.leads(LQuorumAlmanac$Node;)Z
def m_X11_leads (a0 : Nat) (a1 : Nat) : Ms Int32 :=
  gI [6, 7, 10] 25 a0 fun x24 =>
  gI [2] 8 a1 fun x25 =>
  if x25 ≤ x24 then
    bn (ko [6, 7, 10] a0 (m_X10_come a0 a1)) fun _ =>
    bn (ko [2] a1 (m_X2_hear a1 a0)) fun _ =>
    rt 1
  else
    bn (ko [2] a1 (m_X2_lower a1 a0)) fun _ =>
    rt 0
theorem hm_X11_leads : (yX11_leads.cls ≠ "java/lang/invoke/MethodHandle" ∧ yX11_leads.cls ≠ "java/lang/invoke/VarHandle" ∧ (parseMethodDescriptor yX11_leads.desc).map (fun d => d.parameters.length) = some 1) := by decide +kernel
set_option maxHeartbeats 4000000 in
set_option maxRecDepth 100000 in
theorem L_X11_leads {G : GT} (hG : GOK G) (a0 : Nat) (a1 : Nat) : Cal G yX11_leads (ws_ yX11_leads cX11_leads 2 (Option.some Jvm.ClassFile.FieldType.boolean)) 10 233 [.ref a0, .ref a1] rI (m_X11_leads a0 a1) := by
  refine Cal_of hG (by decide +kernel) (Nat.le_of_ble_eq_true rfl) (lv0 := [(0, .ref a0), (1, .ref a1)]) rfl (fun X σ0 => ?_)
  delta m_X11_leads
  refine Ex_aload_n dX11_leads_0 rfl 0 rfl ?_
  refine Ex_gI dX11_leads_1 lk_X11_13 rfl (fun x24 => ?_)
  refine Ex_aload_n dX11_leads_4 rfl 1 rfl ?_
  refine Ex_gI dX11_leads_5 lk_X11_16 rfl (fun x25 => ?_)
  refine Ex_icmp_ge (tgt := 18) dX11_leads_8 (by decide) ?_ ?_
  · refine Ex_aload_n dX11_leads_18 rfl 0 rfl ?_
    refine Ex_aload_n dX11_leads_19 rfl 1 rfl ?_
    refine Ex_bnU (Inv_SU (L_X10_come hG a0 a1) (lw_SU q1577 q1550 q1557 q1549 q73 q1558) ok_6_7_10 ⟨by decide, hm_X10_come.2.2⟩ (by decide) (by decide) dX11_leads_20 rfl (Nat.le_of_ble_eq_true rfl)) (fun _ => ?_)
    refine Ex_aload_n dX11_leads_23 rfl 1 rfl ?_
    refine Ex_aload_n dX11_leads_24 rfl 0 rfl ?_
    refine Ex_bnU (Inv_V (L_X2_hear hG a1 a0) (lw_V q1578 q1579 q1580 q50 q1581) oe_2 ⟨rfl, hm_X2_hear⟩ (by decide) (by decide) dX11_leads_25 rfl (Nat.le_of_ble_eq_true rfl)) (fun _ => ?_)
    refine Ex_iconst (v := 1) dX11_leads_28 (by decide) ?_
    exact Ex_zreturn dX11_leads_29 rfl rfl
  · refine Ex_aload_n dX11_leads_11 rfl 1 rfl ?_
    refine Ex_aload_n dX11_leads_12 rfl 0 rfl ?_
    refine Ex_bnU (Inv_V (L_X2_lower hG a1 a0) (lw_V q1573 q1574 q1575 q50 q1576) oe_2 ⟨rfl, hm_X2_lower⟩ (by decide) (by decide) dX11_leads_13 rfl (Nat.le_of_ble_eq_true rfl)) (fun _ => ?_)
    refine Ex_iconst (v := 0) dX11_leads_16 (by decide) ?_
    exact Ex_zreturn dX11_leads_17 rfl rfl
-- QuorumAlmanac$Node.install(LQuorumAlmanac$Install;)V
def m_X2_install (a0 : Nat) (a1 : Nat) : Ms Unit :=
  gR [6] 121 a1 fun x60 =>
  gI [5] 20 x60 fun x61 =>
  gI [2] 13 a0 fun x62 =>
  jn (fun (v63 : Unit) =>
      gI [2] 14 a0 fun x65 =>
      gI [5] 20 x60 fun x66 =>
      pV [2] 14 a0 (.int (iMax x65 x66)) <|
      gR [2] 115 a0 fun x67 =>
      nO 10 7 dfl fun a68 =>
      gR [2] 115 a0 fun x69 =>
      bn (ko [1] x69 (m_X1_nextMessage x69)) fun r70 =>
      gI [2] 4 a0 fun x71 =>
      gI [6] 23 a1 fun x72 =>
      gI [2] 8 a0 fun x73 =>
      gI [6] 26 a1 fun x74 =>
      gI [2] 14 a0 fun x75 =>
      gI [2] 12 a0 fun x76 =>
      bn (m_X18_init a68 r70 x71 x72 x73 x74 97 (iMin x75 x76)) fun _ =>
      bn (ko [1] x67 (m_X1_send x67 a68)) fun _ =>
      rt ())
    fun j64 =>
    if x61 ≤ x62 then
      j64 ()
    else
      gR [2] 109 a0 fun x77 =>
      bn (ko [22] x77 (m_J2_clear x77)) fun _ =>
      pV [2] 108 a0 (.ref x60) <|
      gI [5] 20 x60 fun x78 =>
      pV [2] 12 a0 (.int x78) <|
      gI [5] 20 x60 fun x79 =>
      pV [2] 13 a0 (.int x79) <|
      gR [5] 120 x60 fun x80 =>
      bn (ko [4] x80 (m_X4_copy x80)) fun r81 =>
      pV [2] 110 a0 (.ref r81) <|
      j64 ()
theorem hm_X2_install : (yX2_install.cls ≠ "java/lang/invoke/MethodHandle" ∧ yX2_install.cls ≠ "java/lang/invoke/VarHandle" ∧ (parseMethodDescriptor yX2_install.desc).map (fun d => d.parameters.length) = some 1) := by decide +kernel
set_option maxHeartbeats 4000000 in
set_option maxRecDepth 100000 in
theorem L_X2_install {G : GT} (hG : GOK G) (a0 : Nat) (a1 : Nat) : Cal G yX2_install (ws_ yX2_install cX2_install 3 (Option.none : Option Jvm.ClassFile.FieldType)) 9 212 [.ref a0, .ref a1] rU (m_X2_install a0 a1) := by
  refine Cal_of hG (by decide +kernel) (Nat.le_of_ble_eq_true rfl) (lv0 := [(0, .ref a0), (1, .ref a1)]) rfl (fun X σ0 => ?_)
  delta m_X2_install
  refine Ex_aload_n dX2_install_0 rfl 1 rfl ?_
  refine Ex_gR dX2_install_1 lk_X2_349 rfl (fun x60 => ?_)
  refine Ex_astore_n (lv' := [(0, .ref a0), (1, .ref a1), (2, .ref x60)]) dX2_install_4 rfl (by decide) [1, 2, 0] rfl ?_
  refine Ex_aload_n dX2_install_5 rfl 2 rfl ?_
  refine Ex_gI dX2_install_6 lk_X2_72 rfl (fun x61 => ?_)
  refine Ex_aload_n dX2_install_9 rfl 0 rfl ?_
  refine Ex_gI dX2_install_10 lk_X2_114 rfl (fun x62 => ?_)
  refine Ex_jn (γ := Unit) (pj := 55) (fun v63 => [(0, .ref a0), (1, .ref a1), (2, .ref x60)]) (fun v63 => []) (fun v63 => ?_) (fun j64 hj64 => ?_)
  · refine Ex_aload_n dX2_install_55 rfl 0 rfl ?_
    refine Ex_aload_n dX2_install_56 rfl 0 rfl ?_
    refine Ex_gI dX2_install_57 lk_X2_180 rfl (fun x65 => ?_)
    refine Ex_aload_n dX2_install_60 rfl 2 rfl ?_
    refine Ex_gI dX2_install_61 lk_X2_72 rfl (fun x66 => ?_)
    refine Ex_mmax dX2_install_64 q1377 q152 q49 q153 (by decide) (Nat.le_of_ble_eq_true rfl) ?_
    refine Ex_pV dX2_install_67 lk_X2_180 rfl rfl rfl rfl ?_
    refine Ex_aload_n dX2_install_70 rfl 0 rfl ?_
    refine Ex_gR dX2_install_71 lk_X2_3 rfl (fun x67 => ?_)
    refine Ex_nO (ci := 9) (q := qcl 9) dX2_install_74 rfl q1323 q1324 q83 (fun a68 => ?_)
    refine Ex_dup rfl dX2_install_77 ?_
    refine Ex_aload_n dX2_install_78 rfl 0 rfl ?_
    refine Ex_gR dX2_install_79 lk_X2_3 rfl (fun x69 => ?_)
    refine Ex_bnI (Inv_VN (L_X1_nextMessage hG x69) q45 q994 q996 q997 qs10 oe_1 hm_X1_nextMessage (by decide) (by decide) dX2_install_82 rfl (Nat.le_of_ble_eq_true rfl)) (fun r70 => ?_)
    refine Ex_aload_n dX2_install_85 rfl 0 rfl ?_
    refine Ex_gI dX2_install_86 lk_X2_60 rfl (fun x71 => ?_)
    refine Ex_aload_n dX2_install_89 rfl 1 rfl ?_
    refine Ex_gI dX2_install_90 lk_X2_355 rfl (fun x72 => ?_)
    refine Ex_aload_n dX2_install_93 rfl 0 rfl ?_
    refine Ex_gI dX2_install_94 lk_X2_143 rfl (fun x73 => ?_)
    refine Ex_aload_n dX2_install_97 rfl 1 rfl ?_
    refine Ex_gI dX2_install_98 lk_X2_356 rfl (fun x74 => ?_)
    refine Ex_bipush (v := 97) dX2_install_101 (by decide) ?_
    refine Ex_aload_n dX2_install_103 rfl 0 rfl ?_
    refine Ex_gI dX2_install_104 lk_X2_180 rfl (fun x75 => ?_)
    refine Ex_aload_n dX2_install_107 rfl 0 rfl ?_
    refine Ex_gI dX2_install_108 lk_X2_315 rfl (fun x76 => ?_)
    refine Ex_mmin dX2_install_111 q1325 q149 q49 q150 (by decide) (Nat.le_of_ble_eq_true rfl) ?_
    refine Ex_bnU (Inv_I (L_X18_init hG a68 r70 x71 x72 x73 x74 97 (iMin x75 x76)) q83 q1326 q1327 q1328 rfl hm_X18_init (by decide) (by decide) dX2_install_114 rfl (Nat.le_of_ble_eq_true rfl)) (fun _ => ?_)
    refine Ex_bnU (Inv_VN (L_X1_send hG x67 a68) q45 q1080 q1082 q1083 qs11 oe_1 hm_X1_send (by decide) (by decide) dX2_install_117 rfl (Nat.le_of_ble_eq_true rfl)) (fun _ => ?_)
    exact Ex_vreturn dX2_install_120 rfl
  · refine Ex_icmp_le (tgt := 55) dX2_install_13 (by decide) ?_ ?_
    · exact hj64 ()
    · refine Ex_aload_n dX2_install_16 rfl 0 rfl ?_
      refine Ex_gR dX2_install_17 lk_X2_33 rfl (fun x77 => ?_)
      refine Ex_bnU (Inv_V (L_J2_clear hG x77) (lw_V q1249 q1250 q1251 q48 q1252) oe_22 ⟨rfl, hm_J2_clear⟩ (by decide) (by decide) dX2_install_20 rfl (Nat.le_of_ble_eq_true rfl)) (fun _ => ?_)
      refine Ex_aload_n dX2_install_23 rfl 0 rfl ?_
      refine Ex_aload_n dX2_install_24 rfl 2 rfl ?_
      refine Ex_pV dX2_install_25 lk_X2_68 rfl rfl rfl rfl ?_
      refine Ex_aload_n dX2_install_28 rfl 0 rfl ?_
      refine Ex_aload_n dX2_install_29 rfl 2 rfl ?_
      refine Ex_gI dX2_install_30 lk_X2_72 rfl (fun x78 => ?_)
      refine Ex_pV dX2_install_33 lk_X2_315 rfl rfl rfl rfl ?_
      refine Ex_aload_n dX2_install_36 rfl 0 rfl ?_
      refine Ex_aload_n dX2_install_37 rfl 2 rfl ?_
      refine Ex_gI dX2_install_38 lk_X2_72 rfl (fun x79 => ?_)
      refine Ex_pV dX2_install_41 lk_X2_114 rfl rfl rfl rfl ?_
      refine Ex_aload_n dX2_install_44 rfl 0 rfl ?_
      refine Ex_aload_n dX2_install_45 rfl 2 rfl ?_
      refine Ex_gR dX2_install_46 lk_X2_350 rfl (fun x80 => ?_)
      refine Ex_bnR (Inv_V (L_X4_copy hG x80) (lw_V q1360 q1361 q1362 q52 q1363) oe_4 ⟨rfl, hm_X4_copy⟩ (by decide) (by decide) dX2_install_49 rfl (Nat.le_of_ble_eq_true rfl)) (fun r81 => ?_)
      refine Ex_pV dX2_install_52 lk_X2_40 rfl rfl rfl rfl ?_
      exact hj64 ()
-- QuorumAlmanac$Install.come(LQuorumAlmanac$Node;)V
def m_X12_come (a0 : Nat) (a1 : Nat) : Ms Unit :=
  bn (ko [6] a0 (m_X11_leads a0 a1)) fun r22 =>
  jn (fun (v23 : Unit) =>
      rt ())
    fun j24 =>
    if r22 = 0 then
      j24 ()
    else
      bn (ko [2] a1 (m_X2_install a1 a0)) fun _ =>
      j24 ()
theorem hm_X12_come : (yX12_come.cls ≠ "java/lang/invoke/MethodHandle" ∧ yX12_come.cls ≠ "java/lang/invoke/VarHandle" ∧ (parseMethodDescriptor yX12_come.desc).map (fun d => d.parameters.length) = some 1) := by decide +kernel
set_option maxHeartbeats 4000000 in
set_option maxRecDepth 100000 in
theorem L_X12_come {G : GT} (hG : GOK G) (a0 : Nat) (a1 : Nat) : Cal G yX12_come (ws_ yX12_come cX12_come 2 (Option.none : Option Jvm.ClassFile.FieldType)) 11 254 [.ref a0, .ref a1] rU (m_X12_come a0 a1) := by
  refine Cal_of hG (by decide +kernel) (Nat.le_of_ble_eq_true rfl) (lv0 := [(0, .ref a0), (1, .ref a1)]) rfl (fun X σ0 => ?_)
  delta m_X12_come
  refine Ex_aload_n dX12_come_0 rfl 0 rfl ?_
  refine Ex_aload_n dX12_come_1 rfl 1 rfl ?_
  refine Ex_bnI (Inv_U (L_X11_leads hG a0 a1) q74 q1645 q1571 q1572 q1647 q1646 q1569 oe_6 hx_QuorumAlmanac_RoundMessage_leads (by decide) (by decide) dX12_come_2 rfl (Nat.le_of_ble_eq_true rfl)) (fun r22 => ?_)
  refine Ex_jn (γ := Unit) (pj := 13) (fun v23 => []) (fun v23 => []) (fun v23 => ?_) (fun j24 hj24 => ?_)
  · exact Ex_vreturn dX12_come_13 rfl
  · refine Ex_if_eq (tgt := 13) dX12_come_5 (by decide) ?_ ?_
    · refine Ex_lv [] (lv' := []) rfl ?_
      exact hj24 ()
    · refine Ex_aload_n dX12_come_8 rfl 1 rfl ?_
      refine Ex_aload_n dX12_come_9 rfl 0 rfl ?_
      refine Ex_bnU (Inv_V (L_X2_install hG a1 a0) (lw_V q1648 q1649 q1650 q50 q1651) oe_2 ⟨rfl, hm_X2_install⟩ (by decide) (by decide) dX12_come_10 rfl (Nat.le_of_ble_eq_true rfl)) (fun _ => ?_)
      refine Ex_lv [] (lv' := []) rfl ?_
      exact hj24 ()
-- java/lang/Throwable.<init>(Ljava/lang/String;Ljava/lang/Throwable;)V
def m_J4_init_3 (a0 : Nat) (o1 : Option Nat) (a2 : Nat) : Ms Unit :=
  pV [11] 123 a0 (.ref a0) <|
  gsO 3 fun x24 =>
  pV [11] 124 a0 (va_rf x24) <|
  gsO 4 fun x25 =>
  pV [11] 125 a0 (va_rf x25) <|
  fi a0 <|
  pV [11] 126 a0 (va_rf o1) <|
  pV [11] 123 a0 (.ref a2) <|
  rt ()
theorem hm_J4_init_3 : (yJ4_init_3.cls ≠ "java/lang/invoke/MethodHandle" ∧ yJ4_init_3.cls ≠ "java/lang/invoke/VarHandle" ∧ (parseMethodDescriptor yJ4_init_3.desc).map (fun d => d.parameters.length) = some 2) := by decide +kernel
set_option maxHeartbeats 4000000 in
set_option maxRecDepth 100000 in
theorem L_J4_init_3 {G : GT} (hG : GOK G) (a0 : Nat) (o1 : Option Nat) (a2 : Nat) : Cal G yJ4_init_3 (ws_ yJ4_init_3 cJ4_init_3 3 (Option.none : Option Jvm.ClassFile.FieldType)) 2 60 [.ref a0, va_rf o1, .ref a2] rU (m_J4_init_3 a0 o1 a2) := by
  refine Cal_of hG (by decide +kernel) (by cases o1 <;> exact Nat.le_of_ble_eq_true rfl) (lv0 := [(0, .ref a0), (1, va_rf o1), (2, .ref a2)]) (by cases o1 <;> rfl) (fun X σ0 => ?_)
  delta m_J4_init_3
  refine Ex_aload_n dJ4_init_3_0 rfl 0 rfl ?_
  refine Ex_objInit dJ4_init_3_1 q800 q103 q104 (by decide) (Nat.le_of_ble_eq_true rfl) ?_
  refine Ex_aload_n dJ4_init_3_4 rfl 0 rfl ?_
  refine Ex_aload_n dJ4_init_3_5 rfl 0 rfl ?_
  refine Ex_pV dJ4_init_3_6 lk_J4_7 rfl rfl rfl rfl ?_
  refine Ex_aload_n dJ4_init_3_9 rfl 0 rfl ?_
  refine Ex_gsO (j := 3) rfl dJ4_init_3_10 q801 (Or.inl rfl) (fun x24 => ?_)
  refine Ex_pV dJ4_init_3_13 lk_J4_17 rfl rfl rfl (by cases x24 <;> rfl) ?_
  refine Ex_aload_n dJ4_init_3_16 rfl 0 rfl ?_
  refine Ex_gsO (j := 4) rfl dJ4_init_3_17 q803 (Or.inl rfl) (fun x25 => ?_)
  refine Ex_pV dJ4_init_3_20 lk_J4_24 rfl rfl rfl (fits_rf _ _) ?_
  refine Ex_aload_n dJ4_init_3_23 rfl 0 rfl ?_
  refine Ex_fill rfl at_X1_12 rfW_in dJ4_init_3_24 (by decide) (Nat.le_of_ble_eq_true rfl) ?_
  refine Ex_pop rfl dJ4_init_3_27 ?_
  refine Ex_aload_n dJ4_init_3_28 rfl 0 rfl ?_
  refine Ex_aload_nO dJ4_init_3_29 rfl 1 rfl ?_
  refine Ex_pV dJ4_init_3_30 lk_J4_31 rfl rfl rfl (fits_rf _ _) ?_
  refine Ex_aload_n dJ4_init_3_33 rfl 0 rfl ?_
  refine Ex_aload_n dJ4_init_3_34 rfl 2 rfl ?_
  refine Ex_pV dJ4_init_3_35 lk_J4_7 rfl rfl rfl rfl ?_
  exact Ex_vreturn dJ4_init_3_38 rfl
-- java/lang/Exception.<init>(Ljava/lang/String;Ljava/lang/Throwable;)V
def m_J5_init_3 (a0 : Nat) (o1 : Option Nat) (a2 : Nat) : Ms Unit :=
  bn (m_J4_init_3 a0 o1 a2) fun _ =>
  rt ()
theorem hm_J5_init_3 : (yJ5_init_3.cls ≠ "java/lang/invoke/MethodHandle" ∧ yJ5_init_3.cls ≠ "java/lang/invoke/VarHandle" ∧ (parseMethodDescriptor yJ5_init_3.desc).map (fun d => d.parameters.length) = some 2) := by decide +kernel
set_option maxHeartbeats 4000000 in
set_option maxRecDepth 100000 in
theorem L_J5_init_3 {G : GT} (hG : GOK G) (a0 : Nat) (o1 : Option Nat) (a2 : Nat) : Cal G yJ5_init_3 (ws_ yJ5_init_3 cJ5_init_3 3 (Option.none : Option Jvm.ClassFile.FieldType)) 3 82 [.ref a0, va_rf o1, .ref a2] rU (m_J5_init_3 a0 o1 a2) := by
  refine Cal_of hG (by decide +kernel) (by cases o1 <;> exact Nat.le_of_ble_eq_true rfl) (lv0 := [(0, .ref a0), (1, va_rf o1), (2, .ref a2)]) (by cases o1 <;> rfl) (fun X σ0 => ?_)
  delta m_J5_init_3
  refine Ex_aload_n dJ5_init_3_0 rfl 0 rfl ?_
  refine Ex_aload_nO dJ5_init_3_1 rfl 1 rfl ?_
  refine Ex_aload_n dJ5_init_3_2 rfl 2 rfl ?_
  refine Ex_bnU (Inv_I (L_J4_init_3 hG a0 o1 a2) q58 q1609 q1610 q1611 rfl hm_J4_init_3 (by decide) (by decide) dJ5_init_3_3 rfl (Nat.le_of_ble_eq_true rfl)) (fun _ => ?_)
  exact Ex_vreturn dJ5_init_3_6 rfl
-- QuorumAlmanac$Refused.<init>(ILjava/lang/RuntimeException;)V
def m_X19_init (a0 : Nat) (x1 : Int32) (a2 : Nat) : Ms Unit :=
  bn (m_J5_init_3 a0 none a2) fun _ =>
  pV [11] 39 a0 (.int x1) <|
  rt ()
theorem hm_X19_init : (yX19_init.cls ≠ "java/lang/invoke/MethodHandle" ∧ yX19_init.cls ≠ "java/lang/invoke/VarHandle" ∧ (parseMethodDescriptor yX19_init.desc).map (fun d => d.parameters.length) = some 2) := by decide +kernel
set_option maxHeartbeats 4000000 in
set_option maxRecDepth 100000 in
theorem L_X19_init {G : GT} (hG : GOK G) (a0 : Nat) (x1 : Int32) (a2 : Nat) : Cal G yX19_init (ws_ yX19_init cX19_init 3 (Option.none : Option Jvm.ClassFile.FieldType)) 4 104 [.ref a0, .int x1, .ref a2] rU (m_X19_init a0 x1 a2) := by
  refine Cal_of hG (by decide +kernel) (Nat.le_of_ble_eq_true rfl) (lv0 := [(0, .ref a0), (1, .int x1), (2, .ref a2)]) rfl (fun X σ0 => ?_)
  delta m_X19_init
  refine Ex_aload_n dX19_init_0 rfl 0 rfl ?_
  refine Ex_null dX19_init_1 ?_
  refine Ex_aload_n dX19_init_2 rfl 2 rfl ?_
  refine Ex_bnU (Inv_I (L_J5_init_3 hG a0 none a2) q59 q1606 q1607 q1608 rfl hm_J5_init_3 (by decide) (by decide) dX19_init_3 rfl (Nat.le_of_ble_eq_true rfl)) (fun _ => ?_)
  refine Ex_aload_n dX19_init_6 rfl 0 rfl ?_
  refine Ex_iload_n dX19_init_7 rfl 1 rfl ?_
  refine Ex_pVF dX19_init_8 lkf_X19_7 rfl rfl rfl rfl rfl rfl ?_
  exact Ex_vreturn dX19_init_11 rfl
-- QuorumAlmanac$Node.check(LQuorumAlmanac$Append;)V
def m_X2_check (a0 : Nat) (a1 : Nat) : Ms Unit :=
  gI [7] 27 a1 fun x42 =>
  gR [2] 108 a0 fun x43 =>
  gI [5] 20 x43 fun x44 =>
  if x44 ≤ x42 then
    bn (ko [2] a0 (m_X2_last a0)) fun r45 =>
    gI [7] 27 a1 fun x46 =>
    bn (ko [2] a0 (m_X2_termAt a0 x46)) fun r47 =>
    gI [7] 28 a1 fun x48 =>
    if r47 = x48 then
      rt ()
    else
      gI [7] 27 a1 fun x49 =>
      fl
  else
    nO 11 7 dfl fun a50 =>
    gR [2] 108 a0 fun x51 =>
    gI [5] 20 x51 fun x52 =>
    mk0 fun a53 =>
    bn (m_X19_init a50 x52 a53) fun _ =>
    ko [11] a50 (thq 6 a50)
theorem hm_X2_check : (yX2_check.cls ≠ "java/lang/invoke/MethodHandle" ∧ yX2_check.cls ≠ "java/lang/invoke/VarHandle" ∧ (parseMethodDescriptor yX2_check.desc).map (fun d => d.parameters.length) = some 1) := by decide +kernel
set_option maxHeartbeats 4000000 in
set_option maxRecDepth 100000 in
theorem L_X2_check {G : GT} (hG : GOK G) (a0 : Nat) (a1 : Nat) : Cal G yX2_check (wsW_ yX2_check cX2_check 4 (Option.none : Option Jvm.ClassFile.FieldType) [(41, 71, 74, 307), (41, 71, 74, 304)]) 7 166 [.ref a0, .ref a1] rU (m_X2_check a0 a1) := by
  refine Cal_ofH hG (by decide +kernel) (Nat.le_of_ble_eq_true rfl) (tb := [{ startPc := 41, endPc := 71, handlerPc := 74, catchType := 307 }, { startPc := 41, endPc := 71, handlerPc := 74, catchType := 304 }]) rfl (lv0 := [(0, .ref a0), (1, .ref a1)]) rfl (fun X σ0 => ?_)
  delta m_X2_check
  refine Ex_aload_n dX2_check_0 rfl 1 rfl ?_
  refine Ex_gI dX2_check_1 lk_X2_290 rfl (fun x42 => ?_)
  refine Ex_aload_n dX2_check_4 rfl 0 rfl ?_
  refine Ex_gR dX2_check_5 lk_X2_68 rfl (fun x43 => ?_)
  refine Ex_gI dX2_check_8 lk_X2_72 rfl (fun x44 => ?_)
  refine Ex_icmp_ge (tgt := 36) dX2_check_11 (by decide) ?_ ?_
  · refine Ex_aload_n dX2_check_36 rfl 0 rfl ?_
    refine Ex_bnI (Inv_V (L_X2_last hG a0) (lw_V q978 q108 q109 q50 q110) oe_2 ⟨rfl, hm_X2_last⟩ (by decide) (by decide) dX2_check_37 rfl (Nat.le_of_ble_eq_true rfl)) (fun r45 => ?_)
    refine Ex_istore_n (lv' := [(0, .ref a0), (1, .ref a1), (2, .int r45)]) dX2_check_40 rfl (by decide) [1, 2, 0] rfl ?_
    refine Ex_aload_n dX2_check_41 rfl 0 rfl ?_
    refine Ex_aload_n dX2_check_42 rfl 1 rfl ?_
    refine Ex_gI dX2_check_43 lk_X2_290 rfl (fun x46 => ?_)
    refine Ex_bnI (Inv_V (L_X2_termAt hG a0 x46) (lw_V q1096 q744 q745 q50 q746) oe_2 ⟨rfl, hm_X2_termAt⟩ (by decide) (by decide) dX2_check_46 rfl (Nat.le_of_ble_eq_true rfl)) (fun r47 => ?_)
    refine Ex_aload_n dX2_check_49 rfl 1 rfl ?_
    refine Ex_gI dX2_check_50 lk_X2_301 rfl (fun x48 => ?_)
    refine Ex_icmp_eq (tgt := 71) dX2_check_53 (by decide) ?_ ?_
    · refine Ex_goto (tgt := 85) dX2_check_71 (by decide) ?_
      exact Ex_vreturn dX2_check_85 rfl
    · refine Ex_aload_n dX2_check_56 rfl 1 rfl ?_
      refine Ex_gI dX2_check_57 lk_X2_290 rfl (fun x49 => ?_)
      refine Ex_iconst (v := 1) dX2_check_60 (by decide) ?_
      refine Ex_isub dX2_check_61 ?_
      refine Ex_istore_n (lv' := [(0, .ref a0), (1, .ref a1), (2, .int (x49 - 1))]) dX2_check_62 rfl (by decide) [1, 2, 0] rfl ?_
      exact Ex_fl
  · refine Ex_nO (ci := 10) (q := qcl 10) dX2_check_14 rfl q1586 q1593 q84 (fun a50 => ?_)
    refine Ex_dup rfl dX2_check_17 ?_
    refine Ex_aload_n dX2_check_18 rfl 0 rfl ?_
    refine Ex_gR dX2_check_19 lk_X2_68 rfl (fun x51 => ?_)
    refine Ex_gI dX2_check_22 lk_X2_72 rfl (fun x52 => ?_)
    refine Ex_mk0 (e := 1) ["java/lang/RuntimeException", "java/lang/Exception"] (by decide) (by decide) q1601 q64 at_X2_297 dX2_check_25 dX2_check_28 dX2_check_29 (by decide) (Nat.le_of_ble_eq_true rfl) (fun a53 => ?_)
    refine Ex_bnU (Inv_I (L_X19_init hG a50 x52 a53) q84 q1603 q1604 q1605 rfl hm_X19_init (by decide) (by decide) dX2_check_32 rfl (Nat.le_of_ble_eq_true rfl)) (fun _ => ?_)
    exact Ex_athrow (e := 6) dX2_check_35 oc_QuorumAlmanac_Refused_11 oeX_Refused (ExT_out (by intro z hz; exact Or.inl (by revert z; decide)))
