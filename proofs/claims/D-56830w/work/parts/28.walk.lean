-- QuorumAlmanac.deliver(I)I
def m_X1_deliver (a0 : Nat) (x1 : Int32) : Ms Int32 :=
  bd (ko [1] a0 (m_X1_message a0 x1)) fun r48 =>
  gI [1] 0 a0 fun x49 =>
  gR [1] 105 a0 fun x50 =>
  bn (ko [22] x50 (m_J2_remove_2 x50 r48)) fun r51 =>
  gR [1] 104 a0 fun x52 =>
  gI [6, 7, 8, 10, 12] 24 r48 fun x53 =>
  aR 33 x52 x53 fun x54 =>
  gI [2] 5 x54 fun x55 =>
  jn (fun (v56 : Unit) =>
      gI [1] 0 a0 fun x58 =>
      rt (x58 - x49))
    fun j57 =>
    if x55 = 0 then
      j57 ()
    else
      gJ [1] 154 a0 fun x59 =>
      pV [1] 154 a0 (.long (x59 + 1)) <|
      gR [1] 104 a0 fun x60 =>
      gI [6, 7, 8, 10, 12] 24 r48 fun x61 =>
      aR 33 x60 x61 fun x62 =>
      jn (fun (u64 : Unit) =>
          gJ [1] 154 a0 fun x65 =>
          jn (fun (v66 : Int32) =>
              bd (m_X1_requireState v66) fun _ =>
              j57 ())
            fun j67 =>
            if 0 ≤ (lg_cmp x59 x65) then
              j67 0
            else
              j67 1)
        fun j63 => (kq 6 r48 (bn (ko [6] r48 (m_X12_come r48 x62)) fun u64 => j63 ())
        (kq 7 r48 (bn (ko [7] r48 (m_X13_come r48 x62)) fun u64 => j63 ())
          (kq 8 r48 (bn (ko [8] r48 (m_X14_come r48 x62)) fun u64 => j63 ())
            (kq 10 r48 (bn (ko [10] r48 (m_X18_come r48 x62)) fun u64 => j63 ())
              (kq 12 r48 (bn (ko [12] r48 (m_X20_come r48 x62)) fun u64 => j63 ())
                fl)))))
theorem hm_X1_deliver : (yX1_deliver.cls ≠ "java/lang/invoke/MethodHandle" ∧ yX1_deliver.cls ≠ "java/lang/invoke/VarHandle" ∧ (parseMethodDescriptor yX1_deliver.desc).map (fun d => d.parameters.length) = some 1) := by decide +kernel
set_option maxHeartbeats 4000000 in
set_option maxRecDepth 100000 in
theorem L_X1_deliver {G : GT} (hG : GOK G) (a0 : Nat) (x1 : Int32) : Cal G yX1_deliver (ws_ yX1_deliver cX1_deliver 6 (Option.some Jvm.ClassFile.FieldType.int)) 13 305 [.ref a0, .int x1] rI (m_X1_deliver a0 x1) := by
  refine Cal_of hG (by decide +kernel) (Nat.le_of_ble_eq_true rfl) (lv0 := [(0, .ref a0), (1, .int x1)]) rfl (fun X σ0 => ?_)
  delta m_X1_deliver
  refine Ex_aload_n dX1_deliver_0 rfl 0 rfl ?_
  refine Ex_iload_n dX1_deliver_1 rfl 1 rfl ?_
  refine Ex_bdR (Inv_V (L_X1_message hG a0 x1) (lw_V q1502 q1504 qs26 q45 q1505) oe_1 ⟨rfl, hm_X1_message⟩ (by decide) (by decide) dX1_deliver_2 rfl (Nat.le_of_ble_eq_true rfl)) (fun _ hz => nomatch hz) (fun r48 => ?_)
  refine Ex_astore_n (lv' := [(0, .ref a0), (1, .int x1), (2, .ref r48)]) dX1_deliver_5 rfl (by decide) [1, 2, 0] rfl ?_
  refine Ex_aload_n dX1_deliver_6 rfl 0 rfl ?_
  refine Ex_gI dX1_deliver_7 lk_X1_94 rfl (fun x49 => ?_)
  refine Ex_istore_n (lv' := [(0, .ref a0), (1, .int x1), (2, .ref r48), (3, .int x49)]) dX1_deliver_10 rfl (by decide) [1, 2, 3, 0] rfl ?_
  refine Ex_aload_n dX1_deliver_11 rfl 0 rfl ?_
  refine Ex_gR dX1_deliver_12 lk_X1_42 rfl (fun x50 => ?_)
  refine Ex_aload_n dX1_deliver_15 rfl 2 rfl ?_
  refine Ex_bnI (Inv_V (L_J2_remove_2 hG x50 r48) (lw_V q1543 q1544 q1545 q48 q1546) oe_22 ⟨rfl, hm_J2_remove_2⟩ (by decide) (by decide) dX1_deliver_16 rfl (Nat.le_of_ble_eq_true rfl)) (fun r51 => ?_)
  refine Ex_pop rfl dX1_deliver_19 ?_
  refine Ex_aload_n dX1_deliver_20 rfl 0 rfl ?_
  refine Ex_gR dX1_deliver_21 lk_X1_35 rfl (fun x52 => ?_)
  refine Ex_aload_n dX1_deliver_24 rfl 2 rfl ?_
  refine Ex_gI dX1_deliver_25 lk_X1_227 rfl (fun x53 => ?_)
  refine Ex_aR (j := 3) rfl rfl dX1_deliver_28 (fun x54 => ?_)
  refine Ex_gI dX1_deliver_29 lk_X1_113 rfl (fun x55 => ?_)
  refine Ex_jn (γ := Unit) (pj := 79) (fun v56 => [(0, .ref a0), (3, .int x49)]) (fun v56 => []) (fun v56 => ?_) (fun j57 hj57 => ?_)
  · refine Ex_aload_n dX1_deliver_79 rfl 0 rfl ?_
    refine Ex_gI dX1_deliver_80 lk_X1_94 rfl (fun x58 => ?_)
    refine Ex_iload_n dX1_deliver_83 rfl 1 rfl ?_
    refine Ex_isub dX1_deliver_84 ?_
    exact Ex_ireturn dX1_deliver_85 rfl
  · refine Ex_if_eq (tgt := 79) dX1_deliver_32 (by decide) ?_ ?_
    · refine Ex_lv [0, 3] (lv' := [(0, .ref a0), (3, .int x49)]) rfl ?_
      exact hj57 ()
    · refine Ex_aload_n dX1_deliver_35 rfl 0 rfl ?_
      refine Ex_dup rfl dX1_deliver_36 ?_
      refine Ex_gJ dX1_deliver_37 lk_X1_232 rfl (fun x59 => ?_)
      refine Ex_dup2_x1_2 rfl rfl dX1_deliver_40 ?_
      refine Ex_lconst (v := 1) dX1_deliver_41 (by decide) ?_
      refine Ex_ladd dX1_deliver_42 ?_
      refine Ex_pV dX1_deliver_43 lk_X1_232 rfl rfl rfl rfl ?_
      refine Ex_lstore (lv' := [(0, .ref a0), (1, .int x1), (2, .ref r48), (3, .int x49), (4, .long x59)]) dX1_deliver_46 (by decide) [1, 2, 3, 4, 0] rfl ?_
      refine Ex_aload_n dX1_deliver_48 rfl 2 rfl ?_
      refine Ex_aload_n dX1_deliver_49 rfl 0 rfl ?_
      refine Ex_gR dX1_deliver_50 lk_X1_35 rfl (fun x60 => ?_)
      refine Ex_aload_n dX1_deliver_53 rfl 2 rfl ?_
      refine Ex_gI dX1_deliver_54 lk_X1_227 rfl (fun x61 => ?_)
      refine Ex_aR (j := 3) rfl rfl dX1_deliver_57 (fun x62 => ?_)
      refine Ex_jn (pj := 61) (fun _ => [(0, .ref a0), (1, .int x1), (2, .ref r48), (3, .int x49), (4, .long x59)]) (fun u64 => []) (fun u64 => ?_) (fun j63 hj63 => ?_)
      · refine Ex_lload dX1_deliver_61 4 rfl ?_
        refine Ex_aload_n dX1_deliver_63 rfl 0 rfl ?_
        refine Ex_gJ dX1_deliver_64 lk_X1_232 rfl (fun x65 => ?_)
        refine Ex_lcmp dX1_deliver_67 ?_
        refine Ex_jn (γ := Int32) (pj := 76) (fun v66 => [(0, .ref a0), (3, .int x49)]) (fun v66 => [.int v66]) (fun v66 => ?_) (fun j67 hj67 => ?_)
        · refine Ex_bdU (Inv_S (L_X1_requireState hG v66) (lw_S q905 q906 q45 q907) hm_X1_requireState (by decide) (by decide) dX1_deliver_76 rfl (Nat.le_of_ble_eq_true rfl)) (fun _ hz => nomatch hz) (fun _ => ?_)
          exact hj57 ()
        · refine Ex_if_ge (tgt := 75) dX1_deliver_68 (by decide) ?_ ?_
          · refine Ex_iconst (v := 0) dX1_deliver_75 (by decide) ?_
            refine Ex_lv [0, 3] (lv' := [(0, .ref a0), (3, .int x49)]) rfl ?_
            exact hj67 0
          · refine Ex_iconst (v := 1) dX1_deliver_71 (by decide) ?_
            refine Ex_goto (tgt := 76) dX1_deliver_72 (by decide) ?_
            refine Ex_lv [0, 3] (lv' := [(0, .ref a0), (3, .int x49)]) rfl ?_
            exact hj67 1
      · refine Ex_kq ?_ ?_
        · exact Ex_bnU (Inv_U (L_X12_come hG r48 x62) q75 q1548 q1643 q1644 q1642 q1550 q1556 oe_6 hx_QuorumAlmanac_Message_come (by decide) (by decide) dX1_deliver_58 rfl (Nat.le_of_ble_eq_true rfl)) (fun u64 => hj63 ())
        · refine Ex_kq ?_ ?_
          · exact Ex_bnU (Inv_U (L_X13_come hG r48 x62) q76 q1548 q1565 q1566 q1564 q1550 q1556 oe_7 hx_QuorumAlmanac_Message_come (by decide) (by decide) dX1_deliver_58 rfl (Nat.le_of_ble_eq_true rfl)) (fun u64 => hj63 ())
          · refine Ex_kq ?_ ?_
            · exact Ex_bnU (Inv_U (L_X14_come hG r48 x62) q79 q1548 q1659 q1660 q1658 q1550 q1556 oe_8 hx_QuorumAlmanac_Message_come (by decide) (by decide) dX1_deliver_58 rfl (Nat.le_of_ble_eq_true rfl)) (fun u64 => hj63 ())
            · refine Ex_kq ?_ ?_
              · exact Ex_bnU (Inv_U (L_X18_come hG r48 x62) q83 q1548 q1552 q1553 q1551 q1550 q1556 oe_10 hx_QuorumAlmanac_Message_come (by decide) (by decide) dX1_deliver_58 rfl (Nat.le_of_ble_eq_true rfl)) (fun u64 => hj63 ())
              · refine Ex_kq ?_ ?_
                · exact Ex_bnU (Inv_U (L_X20_come hG r48 x62) q86 q1548 q1653 q1654 q1652 q1550 q1556 oe_12 hx_QuorumAlmanac_Message_come (by decide) (by decide) dX1_deliver_58 rfl (Nat.le_of_ble_eq_true rfl)) (fun u64 => hj63 ())
                · exact Ex_fl
-- QuorumAlmanacLaw.deliver(LQuorumAlmanac;I[J)I
def m_X0_deliver (a0 : Nat) (x1 : Int32) (a2 : Nat) : Ms Int32 :=
  tr (ko [1] a0 (m_X1_deliver a0 x1)) (fun r22 =>
    sV 35 a2 0 (.long r22.toInt64) <|
    rt 0) fun e q23 =>
    if e = 3 then
      rt 1
    else fl
theorem hm_X0_deliver : (yX0_deliver.cls ≠ "java/lang/invoke/MethodHandle" ∧ yX0_deliver.cls ≠ "java/lang/invoke/VarHandle" ∧ (parseMethodDescriptor yX0_deliver.desc).map (fun d => d.parameters.length) = some 3) := by decide +kernel
set_option maxHeartbeats 4000000 in
set_option maxRecDepth 100000 in
theorem L_X0_deliver {G : GT} (hG : GOK G) (a0 : Nat) (x1 : Int32) (a2 : Nat) : Cal G yX0_deliver (wsW_ yX0_deliver cX0_deliver 4 (Option.some Jvm.ClassFile.FieldType.int) [(0, 9, 12, 39)]) 14 330 [.ref a0, .int x1, .ref a2] rI (m_X0_deliver a0 x1 a2) := by
  refine Cal_ofH hG (by decide +kernel) (Nat.le_of_ble_eq_true rfl) (tb := [{ startPc := 0, endPc := 9, handlerPc := 12, catchType := 39 }]) rfl (lv0 := [(0, .ref a0), (1, .int x1), (2, .ref a2)]) rfl (fun X σ0 => ?_)
  delta m_X0_deliver
  refine Ex_aload_n dX0_deliver_0 rfl 2 rfl ?_
  refine Ex_iconst (v := 0) dX0_deliver_1 (by decide) ?_
  refine Ex_aload_n dX0_deliver_2 rfl 0 rfl ?_
  refine Ex_iload_n dX0_deliver_3 rfl 1 rfl ?_
  refine Ex_trI (Inv_V (L_X1_deliver hG a0 x1) (lw_V q1539 q1540 q1541 q45 q1542) oe_1 ⟨rfl, hm_X1_deliver⟩ (by decide) (by decide) dX0_deliver_4 rfl (Nat.le_of_ble_eq_true rfl)) (fun r22 => ?_) (fun e q23 => ?_)
  · refine Ex_i2l dX0_deliver_7 ?_
    refine Ex_last dX0_deliver_8 ?_
    refine Ex_goto (tgt := 15) dX0_deliver_9 (by decide) ?_
    refine Ex_iconst (v := 0) dX0_deliver_15 (by decide) ?_
    exact Ex_ireturn dX0_deliver_16 rfl
  · refine ExT_if (e0 := 3) ?_ ?_
    · refine ExT_catch (name := "java/util/NoSuchElementException") [] { startPc := 0, endPc := 9, handlerPc := 12, catchType := 39 } [] rfl (fun _ hz => nomatch hz) rfl (by decide) q1410 q1196 ?_
      refine Ex_astore_n (lv' := [(0, .ref a0), (1, .int x1), (2, .ref a2), (3, .ref q23)]) dX0_deliver_12 rfl (by decide) [1, 2, 3, 0] rfl ?_
      refine Ex_iconst (v := 1) dX0_deliver_13 (by decide) ?_
      exact Ex_ireturn dX0_deliver_14 rfl
    · exact ExT_fl
-- QuorumAlmanac.lose(I)I
def m_X1_lose (a0 : Nat) (x1 : Int32) : Ms Int32 :=
  gR [1] 105 a0 fun x30 =>
  bd (ko [1] a0 (m_X1_message a0 x1)) fun r31 =>
  bn (ko [22] x30 (m_J2_remove_2 x30 r31)) fun r32 =>
  gR [1] 105 a0 fun x33 =>
  bn (ko [22] x33 (m_J2_size x33)) fun r34 =>
  rt r34
theorem hm_X1_lose : (yX1_lose.cls ≠ "java/lang/invoke/MethodHandle" ∧ yX1_lose.cls ≠ "java/lang/invoke/VarHandle" ∧ (parseMethodDescriptor yX1_lose.desc).map (fun d => d.parameters.length) = some 1) := by decide +kernel
set_option maxHeartbeats 4000000 in
set_option maxRecDepth 100000 in
theorem L_X1_lose {G : GT} (hG : GOK G) (a0 : Nat) (x1 : Int32) : Cal G yX1_lose (ws_ yX1_lose cX1_lose 2 (Option.some Jvm.ClassFile.FieldType.int)) 8 133 [.ref a0, .int x1] rI (m_X1_lose a0 x1) := by
  refine Cal_of hG (by decide +kernel) (Nat.le_of_ble_eq_true rfl) (lv0 := [(0, .ref a0), (1, .int x1)]) rfl (fun X σ0 => ?_)
  delta m_X1_lose
  refine Ex_aload_n dX1_lose_0 rfl 0 rfl ?_
  refine Ex_gR dX1_lose_1 lk_X1_42 rfl (fun x30 => ?_)
  refine Ex_aload_n dX1_lose_4 rfl 0 rfl ?_
  refine Ex_iload_n dX1_lose_5 rfl 1 rfl ?_
  refine Ex_bdR (Inv_V (L_X1_message hG a0 x1) (lw_V q1502 q1504 qs26 q45 q1505) oe_1 ⟨rfl, hm_X1_message⟩ (by decide) (by decide) dX1_lose_6 rfl (Nat.le_of_ble_eq_true rfl)) (fun _ hz => nomatch hz) (fun r31 => ?_)
  refine Ex_bnI (Inv_V (L_J2_remove_2 hG x30 r31) (lw_V q1543 q1544 q1545 q48 q1546) oe_22 ⟨rfl, hm_J2_remove_2⟩ (by decide) (by decide) dX1_lose_9 rfl (Nat.le_of_ble_eq_true rfl)) (fun r32 => ?_)
  refine Ex_pop rfl dX1_lose_12 ?_
  refine Ex_aload_n dX1_lose_13 rfl 0 rfl ?_
  refine Ex_gR dX1_lose_14 lk_X1_42 rfl (fun x33 => ?_)
  refine Ex_bnI (Inv_V (L_J2_size hG x33) (lw_V q348 q112 q113 q48 q114) oe_22 ⟨rfl, hm_J2_size⟩ (by decide) (by decide) dX1_lose_17 rfl (Nat.le_of_ble_eq_true rfl)) (fun r34 => ?_)
  exact Ex_ireturn dX1_lose_20 rfl
-- QuorumAlmanacLaw.lose(LQuorumAlmanac;I[J)I
def m_X0_lose (a0 : Nat) (x1 : Int32) (a2 : Nat) : Ms Int32 :=
  tr (ko [1] a0 (m_X1_lose a0 x1)) (fun r22 =>
    sV 35 a2 0 (.long r22.toInt64) <|
    rt 0) fun e q23 =>
    if e = 3 then
      rt 1
    else fl
theorem hm_X0_lose : (yX0_lose.cls ≠ "java/lang/invoke/MethodHandle" ∧ yX0_lose.cls ≠ "java/lang/invoke/VarHandle" ∧ (parseMethodDescriptor yX0_lose.desc).map (fun d => d.parameters.length) = some 3) := by decide +kernel
set_option maxHeartbeats 4000000 in
set_option maxRecDepth 100000 in
theorem L_X0_lose {G : GT} (hG : GOK G) (a0 : Nat) (x1 : Int32) (a2 : Nat) : Cal G yX0_lose (wsW_ yX0_lose cX0_lose 4 (Option.some Jvm.ClassFile.FieldType.int) [(0, 9, 12, 39)]) 9 154 [.ref a0, .int x1, .ref a2] rI (m_X0_lose a0 x1 a2) := by
  refine Cal_ofH hG (by decide +kernel) (Nat.le_of_ble_eq_true rfl) (tb := [{ startPc := 0, endPc := 9, handlerPc := 12, catchType := 39 }]) rfl (lv0 := [(0, .ref a0), (1, .int x1), (2, .ref a2)]) rfl (fun X σ0 => ?_)
  delta m_X0_lose
  refine Ex_aload_n dX0_lose_0 rfl 2 rfl ?_
  refine Ex_iconst (v := 0) dX0_lose_1 (by decide) ?_
  refine Ex_aload_n dX0_lose_2 rfl 0 rfl ?_
  refine Ex_iload_n dX0_lose_3 rfl 1 rfl ?_
  refine Ex_trI (Inv_V (L_X1_lose hG a0 x1) (lw_V q1694 q1695 q1696 q45 q1697) oe_1 ⟨rfl, hm_X1_lose⟩ (by decide) (by decide) dX0_lose_4 rfl (Nat.le_of_ble_eq_true rfl)) (fun r22 => ?_) (fun e q23 => ?_)
  · refine Ex_i2l dX0_lose_7 ?_
    refine Ex_last dX0_lose_8 ?_
    refine Ex_goto (tgt := 15) dX0_lose_9 (by decide) ?_
    refine Ex_iconst (v := 0) dX0_lose_15 (by decide) ?_
    exact Ex_ireturn dX0_lose_16 rfl
  · refine ExT_if (e0 := 3) ?_ ?_
    · refine ExT_catch (name := "java/util/NoSuchElementException") [] { startPc := 0, endPc := 9, handlerPc := 12, catchType := 39 } [] rfl (fun _ hz => nomatch hz) rfl (by decide) q1410 q1196 ?_
      refine Ex_astore_n (lv' := [(0, .ref a0), (1, .int x1), (2, .ref a2), (3, .ref q23)]) dX0_lose_12 rfl (by decide) [1, 2, 3, 0] rfl ?_
      refine Ex_iconst (v := 1) dX0_lose_13 (by decide) ?_
      exact Ex_ireturn dX0_lose_14 rfl
    · exact ExT_fl
-- QuorumAlmanac$Install.copy(I)LQuorumAlmanac$Message;
def m_X12_copy (a0 : Nat) (x1 : Int32) : Ms Nat :=
  nO 6 6 dfl fun a32 =>
  gI [6] 23 a0 fun x33 =>
  gI [6] 24 a0 fun x34 =>
  gI [6] 25 a0 fun x35 =>
  gI [6] 26 a0 fun x36 =>
  gR [6] 121 a0 fun x37 =>
  bn (m_X12_init a32 x1 x33 x34 x35 x36 x37) fun _ =>
  rt a32
theorem hm_X12_copy : (yX12_copy.cls ≠ "java/lang/invoke/MethodHandle" ∧ yX12_copy.cls ≠ "java/lang/invoke/VarHandle" ∧ (parseMethodDescriptor yX12_copy.desc).map (fun d => d.parameters.length) = some 1) := by decide +kernel
set_option maxHeartbeats 4000000 in
set_option maxRecDepth 100000 in
theorem L_X12_copy {G : GT} (hG : GOK G) (a0 : Nat) (x1 : Int32) : Cal G yX12_copy (ws_ yX12_copy cX12_copy 2 (Option.some (Jvm.ClassFile.FieldType.object "QuorumAlmanac$Message"))) 5 135 [.ref a0, .int x1] rR (m_X12_copy a0 x1) := by
  refine Cal_of hG (by decide +kernel) (Nat.le_of_ble_eq_true rfl) (lv0 := [(0, .ref a0), (1, .int x1)]) rfl (fun X σ0 => ?_)
  delta m_X12_copy
  refine Ex_nO (ci := 5) (q := qcl 5) dX12_copy_0 rfl q1722 q993 q75 (fun a32 => ?_)
  refine Ex_dup rfl dX12_copy_3 ?_
  refine Ex_iload_n dX12_copy_4 rfl 1 rfl ?_
  refine Ex_aload_n dX12_copy_5 rfl 0 rfl ?_
  refine Ex_gI dX12_copy_6 lk_X12_13 rfl (fun x33 => ?_)
  refine Ex_aload_n dX12_copy_9 rfl 0 rfl ?_
  refine Ex_gI dX12_copy_10 lk_X12_17 rfl (fun x34 => ?_)
  refine Ex_aload_n dX12_copy_13 rfl 0 rfl ?_
  refine Ex_gI dX12_copy_14 lk_X12_20 rfl (fun x35 => ?_)
  refine Ex_aload_n dX12_copy_17 rfl 0 rfl ?_
  refine Ex_gI dX12_copy_18 lk_X12_23 rfl (fun x36 => ?_)
  refine Ex_aload_n dX12_copy_21 rfl 0 rfl ?_
  refine Ex_gR dX12_copy_22 lk_X12_7 rfl (fun x37 => ?_)
  refine Ex_bnU (Inv_I (L_X12_init hG a32 x1 x33 x34 x35 x36 x37) q75 q1723 q999 q1000 rfl hm_X12_init (by decide) (by decide) dX12_copy_25 rfl (Nat.le_of_ble_eq_true rfl)) (fun _ => ?_)
  exact Ex_areturn dX12_copy_28 rfl (Or.inl ⟨_, rfl⟩)
-- QuorumAlmanac$Append.copy(I)LQuorumAlmanac$Message;
def m_X13_copy (a0 : Nat) (x1 : Int32) : Ms Nat :=
  nO 7 9 dfl fun a38 =>
  gI [7] 23 a0 fun x39 =>
  gI [7] 24 a0 fun x40 =>
  gI [7] 25 a0 fun x41 =>
  gI [7] 26 a0 fun x42 =>
  gI [7] 27 a0 fun x43 =>
  gI [7] 28 a0 fun x44 =>
  gR [7] 122 a0 fun x45 =>
  gI [7] 29 a0 fun x46 =>
  bn (m_X13_init a38 x1 x39 x40 x41 x42 x43 x44 x45 x46) fun _ =>
  rt a38
theorem hm_X13_copy : (yX13_copy.cls ≠ "java/lang/invoke/MethodHandle" ∧ yX13_copy.cls ≠ "java/lang/invoke/VarHandle" ∧ (parseMethodDescriptor yX13_copy.desc).map (fun d => d.parameters.length) = some 1) := by decide +kernel
set_option maxHeartbeats 4000000 in
set_option maxRecDepth 100000 in
theorem L_X13_copy {G : GT} (hG : GOK G) (a0 : Nat) (x1 : Int32) : Cal G yX13_copy (ws_ yX13_copy cX13_copy 2 (Option.some (Jvm.ClassFile.FieldType.object "QuorumAlmanac$Message"))) 5 138 [.ref a0, .int x1] rR (m_X13_copy a0 x1) := by
  refine Cal_of hG (by decide +kernel) (Nat.le_of_ble_eq_true rfl) (lv0 := [(0, .ref a0), (1, .int x1)]) rfl (fun X σ0 => ?_)
  delta m_X13_copy
  refine Ex_nO (ci := 6) (q := qcl 6) dX13_copy_0 rfl q1717 q1095 q76 (fun a38 => ?_)
  refine Ex_dup rfl dX13_copy_3 ?_
  refine Ex_iload_n dX13_copy_4 rfl 1 rfl ?_
  refine Ex_aload_n dX13_copy_5 rfl 0 rfl ?_
  refine Ex_gI dX13_copy_6 lk_X13_23 rfl (fun x39 => ?_)
  refine Ex_aload_n dX13_copy_9 rfl 0 rfl ?_
  refine Ex_gI dX13_copy_10 lk_X13_26 rfl (fun x40 => ?_)
  refine Ex_aload_n dX13_copy_13 rfl 0 rfl ?_
  refine Ex_gI dX13_copy_14 lk_X13_29 rfl (fun x41 => ?_)
  refine Ex_aload_n dX13_copy_17 rfl 0 rfl ?_
  refine Ex_gI dX13_copy_18 lk_X13_32 rfl (fun x42 => ?_)
  refine Ex_aload_n dX13_copy_21 rfl 0 rfl ?_
  refine Ex_gI dX13_copy_22 lk_X13_7 rfl (fun x43 => ?_)
  refine Ex_aload_n dX13_copy_25 rfl 0 rfl ?_
  refine Ex_gI dX13_copy_26 lk_X13_13 rfl (fun x44 => ?_)
  refine Ex_aload_n dX13_copy_29 rfl 0 rfl ?_
  refine Ex_gR dX13_copy_30 lk_X13_16 rfl (fun x45 => ?_)
  refine Ex_aload_n dX13_copy_33 rfl 0 rfl ?_
  refine Ex_gI dX13_copy_34 lk_X13_20 rfl (fun x46 => ?_)
  refine Ex_bnU (Inv_I (L_X13_init hG a38 x1 x39 x40 x41 x42 x43 x44 x45 x46) q76 q1718 q1098 q1099 rfl hm_X13_init (by decide) (by decide) dX13_copy_37 rfl (Nat.le_of_ble_eq_true rfl)) (fun _ => ?_)
  exact Ex_areturn dX13_copy_40 rfl (Or.inl ⟨_, rfl⟩)
-- QuorumAlmanac$Wish.copy(I)LQuorumAlmanac$Message;
def m_X14_copy (a0 : Nat) (x1 : Int32) : Ms Nat :=
  nO 8 6 dfl fun a32 =>
  gI [8] 23 a0 fun x33 =>
  gI [8] 24 a0 fun x34 =>
  gI [8] 25 a0 fun x35 =>
  gI [8] 30 a0 fun x36 =>
  gI [8] 31 a0 fun x37 =>
  bn (m_X14_init a32 x1 x33 x34 x35 x36 x37) fun _ =>
  rt a32
theorem hm_X14_copy : (yX14_copy.cls ≠ "java/lang/invoke/MethodHandle" ∧ yX14_copy.cls ≠ "java/lang/invoke/VarHandle" ∧ (parseMethodDescriptor yX14_copy.desc).map (fun d => d.parameters.length) = some 1) := by decide +kernel
set_option maxHeartbeats 4000000 in
set_option maxRecDepth 100000 in
theorem L_X14_copy {G : GT} (hG : GOK G) (a0 : Nat) (x1 : Int32) : Cal G yX14_copy (ws_ yX14_copy cX14_copy 2 (Option.some (Jvm.ClassFile.FieldType.object "QuorumAlmanac$Message"))) 4 110 [.ref a0, .int x1] rR (m_X14_copy a0 x1) := by
  refine Cal_of hG (by decide +kernel) (Nat.le_of_ble_eq_true rfl) (lv0 := [(0, .ref a0), (1, .int x1)]) rfl (fun X σ0 => ?_)
  delta m_X14_copy
  refine Ex_nO (ci := 7) (q := qcl 7) dX14_copy_0 rfl q1732 q1227 q79 (fun a32 => ?_)
  refine Ex_dup rfl dX14_copy_3 ?_
  refine Ex_iload_n dX14_copy_4 rfl 1 rfl ?_
  refine Ex_aload_n dX14_copy_5 rfl 0 rfl ?_
  refine Ex_gI dX14_copy_6 lk_X14_16 rfl (fun x33 => ?_)
  refine Ex_aload_n dX14_copy_9 rfl 0 rfl ?_
  refine Ex_gI dX14_copy_10 lk_X14_19 rfl (fun x34 => ?_)
  refine Ex_aload_n dX14_copy_13 rfl 0 rfl ?_
  refine Ex_gI dX14_copy_14 lk_X14_22 rfl (fun x35 => ?_)
  refine Ex_aload_n dX14_copy_17 rfl 0 rfl ?_
  refine Ex_gI dX14_copy_18 lk_X14_7 rfl (fun x36 => ?_)
  refine Ex_aload_n dX14_copy_21 rfl 0 rfl ?_
  refine Ex_gI dX14_copy_22 lk_X14_13 rfl (fun x37 => ?_)
  refine Ex_bnU (Inv_I (L_X14_init hG a32 x1 x33 x34 x35 x36 x37) q79 q1733 q1229 q1230 rfl hm_X14_init (by decide) (by decide) dX14_copy_25 rfl (Nat.le_of_ble_eq_true rfl)) (fun _ => ?_)
  exact Ex_areturn dX14_copy_28 rfl (Or.inl ⟨_, rfl⟩)
-- QuorumAlmanac$Answer.copy(I)LQuorumAlmanac$Message;
def m_X18_copy (a0 : Nat) (x1 : Int32) : Ms Nat :=
  nO 10 7 dfl fun a34 =>
  gI [10] 23 a0 fun x35 =>
  gI [10] 24 a0 fun x36 =>
  gI [10] 25 a0 fun x37 =>
  gI [10] 26 a0 fun x38 =>
  gI [10] 36 a0 fun x39 =>
  gI [10] 37 a0 fun x40 =>
  bn (m_X18_init a34 x1 x35 x36 x37 x38 x39 x40) fun _ =>
  rt a34
theorem hm_X18_copy : (yX18_copy.cls ≠ "java/lang/invoke/MethodHandle" ∧ yX18_copy.cls ≠ "java/lang/invoke/VarHandle" ∧ (parseMethodDescriptor yX18_copy.desc).map (fun d => d.parameters.length) = some 1) := by decide +kernel
set_option maxHeartbeats 4000000 in
set_option maxRecDepth 100000 in
theorem L_X18_copy {G : GT} (hG : GOK G) (a0 : Nat) (x1 : Int32) : Cal G yX18_copy (ws_ yX18_copy cX18_copy 2 (Option.some (Jvm.ClassFile.FieldType.object "QuorumAlmanac$Message"))) 5 136 [.ref a0, .int x1] rR (m_X18_copy a0 x1) := by
  refine Cal_of hG (by decide +kernel) (Nat.le_of_ble_eq_true rfl) (lv0 := [(0, .ref a0), (1, .int x1)]) rfl (fun X σ0 => ?_)
  delta m_X18_copy
  refine Ex_nO (ci := 9) (q := qcl 9) dX18_copy_0 rfl q1712 q1324 q83 (fun a34 => ?_)
  refine Ex_dup rfl dX18_copy_3 ?_
  refine Ex_iload_n dX18_copy_4 rfl 1 rfl ?_
  refine Ex_aload_n dX18_copy_5 rfl 0 rfl ?_
  refine Ex_gI dX18_copy_6 lk_X18_17 rfl (fun x35 => ?_)
  refine Ex_aload_n dX18_copy_9 rfl 0 rfl ?_
  refine Ex_gI dX18_copy_10 lk_X18_20 rfl (fun x36 => ?_)
  refine Ex_aload_n dX18_copy_13 rfl 0 rfl ?_
  refine Ex_gI dX18_copy_14 lk_X18_23 rfl (fun x37 => ?_)
  refine Ex_aload_n dX18_copy_17 rfl 0 rfl ?_
  refine Ex_gI dX18_copy_18 lk_X18_26 rfl (fun x38 => ?_)
  refine Ex_aload_n dX18_copy_21 rfl 0 rfl ?_
  refine Ex_gI dX18_copy_22 lk_X18_7 rfl (fun x39 => ?_)
  refine Ex_aload_n dX18_copy_25 rfl 0 rfl ?_
  refine Ex_gI dX18_copy_26 lk_X18_13 rfl (fun x40 => ?_)
  refine Ex_bnU (Inv_I (L_X18_init hG a34 x1 x35 x36 x37 x38 x39 x40) q83 q1713 q1327 q1328 rfl hm_X18_init (by decide) (by decide) dX18_copy_29 rfl (Nat.le_of_ble_eq_true rfl)) (fun _ => ?_)
  exact Ex_areturn dX18_copy_32 rfl (Or.inl ⟨_, rfl⟩)
-- QuorumAlmanac$Voice.copy(I)LQuorumAlmanac$Message;
def m_X20_copy (a0 : Nat) (x1 : Int32) : Ms Nat :=
  nO 12 5 dfl fun a30 =>
  gI [12] 23 a0 fun x31 =>
  gI [12] 24 a0 fun x32 =>
  gI [12] 25 a0 fun x33 =>
  gI [12] 40 a0 fun x34 =>
  bn (m_X20_init a30 x1 x31 x32 x33 x34) fun _ =>
  rt a30
theorem hm_X20_copy : (yX20_copy.cls ≠ "java/lang/invoke/MethodHandle" ∧ yX20_copy.cls ≠ "java/lang/invoke/VarHandle" ∧ (parseMethodDescriptor yX20_copy.desc).map (fun d => d.parameters.length) = some 1) := by decide +kernel
set_option maxHeartbeats 4000000 in
set_option maxRecDepth 100000 in
theorem L_X20_copy {G : GT} (hG : GOK G) (a0 : Nat) (x1 : Int32) : Cal G yX20_copy (ws_ yX20_copy cX20_copy 2 (Option.some (Jvm.ClassFile.FieldType.object "QuorumAlmanac$Message"))) 4 109 [.ref a0, .int x1] rR (m_X20_copy a0 x1) := by
  refine Cal_of hG (by decide +kernel) (Nat.le_of_ble_eq_true rfl) (lv0 := [(0, .ref a0), (1, .int x1)]) rfl (fun X σ0 => ?_)
  delta m_X20_copy
  refine Ex_nO (ci := 11) (q := qcl 11) dX20_copy_0 rfl q1727 q1679 q86 (fun a30 => ?_)
  refine Ex_dup rfl dX20_copy_3 ?_
  refine Ex_iload_n dX20_copy_4 rfl 1 rfl ?_
  refine Ex_aload_n dX20_copy_5 rfl 0 rfl ?_
  refine Ex_gI dX20_copy_6 lk_X20_13 rfl (fun x31 => ?_)
  refine Ex_aload_n dX20_copy_9 rfl 0 rfl ?_
  refine Ex_gI dX20_copy_10 lk_X20_17 rfl (fun x32 => ?_)
  refine Ex_aload_n dX20_copy_13 rfl 0 rfl ?_
  refine Ex_gI dX20_copy_14 lk_X20_20 rfl (fun x33 => ?_)
  refine Ex_aload_n dX20_copy_17 rfl 0 rfl ?_
  refine Ex_gI dX20_copy_18 lk_X20_7 rfl (fun x34 => ?_)
  refine Ex_bnU (Inv_I (L_X20_init hG a30 x1 x31 x32 x33 x34) q86 q1728 q1681 q1682 rfl hm_X20_init (by decide) (by decide) dX20_copy_21 rfl (Nat.le_of_ble_eq_true rfl)) (fun _ => ?_)
  exact Ex_areturn dX20_copy_24 rfl (Or.inl ⟨_, rfl⟩)
-- QuorumAlmanac.copy(I)I
def m_X1_copy (a0 : Nat) (x1 : Int32) : Ms Int32 :=
  bd (ko [1] a0 (m_X1_message a0 x1)) fun r26 =>
  bn (ko [1] a0 (m_X1_nextMessage a0)) fun r27 =>
  jn (fun (r28 : Nat) =>
      bn (ko [1] a0 (m_X1_send a0 r28)) fun _ =>
      rt r27)
    fun j29 => (kq 6 r26 (bn (ko [6] r26 (m_X12_copy r26 r27)) fun r28 => j29 r28)
    (kq 7 r26 (bn (ko [7] r26 (m_X13_copy r26 r27)) fun r28 => j29 r28)
      (kq 8 r26 (bn (ko [8] r26 (m_X14_copy r26 r27)) fun r28 => j29 r28)
        (kq 10 r26 (bn (ko [10] r26 (m_X18_copy r26 r27)) fun r28 => j29 r28)
          (kq 12 r26 (bn (ko [12] r26 (m_X20_copy r26 r27)) fun r28 => j29 r28)
            fl)))))
theorem hm_X1_copy : (yX1_copy.cls ≠ "java/lang/invoke/MethodHandle" ∧ yX1_copy.cls ≠ "java/lang/invoke/VarHandle" ∧ (parseMethodDescriptor yX1_copy.desc).map (fun d => d.parameters.length) = some 1) := by decide +kernel
set_option maxHeartbeats 4000000 in
set_option maxRecDepth 100000 in
theorem L_X1_copy {G : GT} (hG : GOK G) (a0 : Nat) (x1 : Int32) : Cal G yX1_copy (ws_ yX1_copy cX1_copy 4 (Option.some Jvm.ClassFile.FieldType.int)) 9 212 [.ref a0, .int x1] rI (m_X1_copy a0 x1) := by
  refine Cal_of hG (by decide +kernel) (Nat.le_of_ble_eq_true rfl) (lv0 := [(0, .ref a0), (1, .int x1)]) rfl (fun X σ0 => ?_)
  delta m_X1_copy
  refine Ex_aload_n dX1_copy_0 rfl 0 rfl ?_
  refine Ex_iload_n dX1_copy_1 rfl 1 rfl ?_
  refine Ex_bdR (Inv_V (L_X1_message hG a0 x1) (lw_V q1502 q1504 qs26 q45 q1505) oe_1 ⟨rfl, hm_X1_message⟩ (by decide) (by decide) dX1_copy_2 rfl (Nat.le_of_ble_eq_true rfl)) (fun _ hz => nomatch hz) (fun r26 => ?_)
  refine Ex_astore_n (lv' := [(0, .ref a0), (1, .int x1), (2, .ref r26)]) dX1_copy_5 rfl (by decide) [1, 2, 0] rfl ?_
  refine Ex_aload_n dX1_copy_6 rfl 0 rfl ?_
  refine Ex_bnI (Inv_V (L_X1_nextMessage hG a0) (lw_V q1705 q996 qs10 q45 q997) oe_1 ⟨rfl, hm_X1_nextMessage⟩ (by decide) (by decide) dX1_copy_7 rfl (Nat.le_of_ble_eq_true rfl)) (fun r27 => ?_)
  refine Ex_istore_n (lv' := [(0, .ref a0), (1, .int x1), (2, .ref r26), (3, .int r27)]) dX1_copy_10 rfl (by decide) [1, 2, 3, 0] rfl ?_
  refine Ex_aload_n dX1_copy_11 rfl 0 rfl ?_
  refine Ex_aload_n dX1_copy_12 rfl 2 rfl ?_
  refine Ex_iload_n dX1_copy_13 rfl 3 rfl ?_
  refine Ex_jn (pj := 17) (fun _ => [(0, .ref a0), (1, .int x1), (2, .ref r26), (3, .int r27)]) (fun r28 => [.ref r28, .ref a0]) (fun r28 => ?_) (fun j29 hj29 => ?_)
  · refine Ex_bnU (Inv_V (L_X1_send hG a0 r28) (lw_V q1734 q1082 qs11 q45 q1083) oe_1 ⟨rfl, hm_X1_send⟩ (by decide) (by decide) dX1_copy_17 rfl (Nat.le_of_ble_eq_true rfl)) (fun _ => ?_)
    refine Ex_iload_n dX1_copy_20 rfl 3 rfl ?_
    exact Ex_ireturn dX1_copy_21 rfl
  · refine Ex_kq ?_ ?_
    · exact Ex_bnR (Inv_U (L_X12_copy hG r26 r27) q75 q1706 q1720 q1721 q1719 q1708 q1707 oe_6 hx_QuorumAlmanac_Message_copy (by decide) (by decide) dX1_copy_14 rfl (Nat.le_of_ble_eq_true rfl)) (fun r28 => hj29 r28)
    · refine Ex_kq ?_ ?_
      · exact Ex_bnR (Inv_U (L_X13_copy hG r26 r27) q76 q1706 q1715 q1716 q1714 q1708 q1707 oe_7 hx_QuorumAlmanac_Message_copy (by decide) (by decide) dX1_copy_14 rfl (Nat.le_of_ble_eq_true rfl)) (fun r28 => hj29 r28)
      · refine Ex_kq ?_ ?_
        · exact Ex_bnR (Inv_U (L_X14_copy hG r26 r27) q79 q1706 q1730 q1731 q1729 q1708 q1707 oe_8 hx_QuorumAlmanac_Message_copy (by decide) (by decide) dX1_copy_14 rfl (Nat.le_of_ble_eq_true rfl)) (fun r28 => hj29 r28)
        · refine Ex_kq ?_ ?_
          · exact Ex_bnR (Inv_U (L_X18_copy hG r26 r27) q83 q1706 q1710 q1711 q1709 q1708 q1707 oe_10 hx_QuorumAlmanac_Message_copy (by decide) (by decide) dX1_copy_14 rfl (Nat.le_of_ble_eq_true rfl)) (fun r28 => hj29 r28)
          · refine Ex_kq ?_ ?_
            · exact Ex_bnR (Inv_U (L_X20_copy hG r26 r27) q86 q1706 q1725 q1726 q1724 q1708 q1707 oe_12 hx_QuorumAlmanac_Message_copy (by decide) (by decide) dX1_copy_14 rfl (Nat.le_of_ble_eq_true rfl)) (fun r28 => hj29 r28)
            · exact Ex_fl
-- QuorumAlmanacLaw.copy(LQuorumAlmanac;I[J)I
def m_X0_copy (a0 : Nat) (x1 : Int32) (a2 : Nat) : Ms Int32 :=
  tr (ko [1] a0 (m_X1_copy a0 x1)) (fun r22 =>
    sV 35 a2 0 (.long r22.toInt64) <|
    rt 0) fun e q23 =>
    if e = 3 then
      rt 1
    else fl
theorem hm_X0_copy : (yX0_copy.cls ≠ "java/lang/invoke/MethodHandle" ∧ yX0_copy.cls ≠ "java/lang/invoke/VarHandle" ∧ (parseMethodDescriptor yX0_copy.desc).map (fun d => d.parameters.length) = some 3) := by decide +kernel
set_option maxHeartbeats 4000000 in
set_option maxRecDepth 100000 in
theorem L_X0_copy {G : GT} (hG : GOK G) (a0 : Nat) (x1 : Int32) (a2 : Nat) : Cal G yX0_copy (wsW_ yX0_copy cX0_copy 4 (Option.some Jvm.ClassFile.FieldType.int) [(0, 9, 12, 39)]) 10 235 [.ref a0, .int x1, .ref a2] rI (m_X0_copy a0 x1 a2) := by
  refine Cal_ofH hG (by decide +kernel) (Nat.le_of_ble_eq_true rfl) (tb := [{ startPc := 0, endPc := 9, handlerPc := 12, catchType := 39 }]) rfl (lv0 := [(0, .ref a0), (1, .int x1), (2, .ref a2)]) rfl (fun X σ0 => ?_)
  delta m_X0_copy
  refine Ex_aload_n dX0_copy_0 rfl 2 rfl ?_
  refine Ex_iconst (v := 0) dX0_copy_1 (by decide) ?_
  refine Ex_aload_n dX0_copy_2 rfl 0 rfl ?_
  refine Ex_iload_n dX0_copy_3 rfl 1 rfl ?_
  refine Ex_trI (Inv_V (L_X1_copy hG a0 x1) (lw_V q1701 q1702 q1703 q45 q1704) oe_1 ⟨rfl, hm_X1_copy⟩ (by decide) (by decide) dX0_copy_4 rfl (Nat.le_of_ble_eq_true rfl)) (fun r22 => ?_) (fun e q23 => ?_)
  · refine Ex_i2l dX0_copy_7 ?_
    refine Ex_last dX0_copy_8 ?_
    refine Ex_goto (tgt := 15) dX0_copy_9 (by decide) ?_
    refine Ex_iconst (v := 0) dX0_copy_15 (by decide) ?_
    exact Ex_ireturn dX0_copy_16 rfl
  · refine ExT_if (e0 := 3) ?_ ?_
    · refine ExT_catch (name := "java/util/NoSuchElementException") [] { startPc := 0, endPc := 9, handlerPc := 12, catchType := 39 } [] rfl (fun _ hz => nomatch hz) rfl (by decide) q1410 q1196 ?_
      refine Ex_astore_n (lv' := [(0, .ref a0), (1, .int x1), (2, .ref a2), (3, .ref q23)]) dX0_copy_12 rfl (by decide) [1, 2, 3, 0] rfl ?_
      refine Ex_iconst (v := 1) dX0_copy_13 (by decide) ?_
      exact Ex_ireturn dX0_copy_14 rfl
    · exact ExT_fl
-- QuorumAlmanac.requireArgument(Z)V
def m_X1_requireArgument (x0 : Int32) : Ms Unit :=
  if ¬ x0 = 0 then
    rt ()
  else
    th 2
theorem hm_X1_requireArgument : (yX1_requireArgument.cls ≠ "java/lang/invoke/MethodHandle" ∧ yX1_requireArgument.cls ≠ "java/lang/invoke/VarHandle" ∧ (parseMethodDescriptor yX1_requireArgument.desc).map (fun d => d.parameters.length) = some 1) := by decide +kernel
set_option maxHeartbeats 4000000 in
set_option maxRecDepth 100000 in
theorem L_X1_requireArgument {G : GT} (hG : GOK G) (x0 : Int32) : Cal G yX1_requireArgument (ws_ yX1_requireArgument cX1_requireArgument 1 (Option.none : Option Jvm.ClassFile.FieldType)) 6 89 [.int x0] rU (m_X1_requireArgument x0) := by
  refine Cal_of hG (by decide +kernel) (Nat.le_of_ble_eq_true rfl) (lv0 := [(0, .int x0)]) rfl (fun X σ0 => ?_)
  delta m_X1_requireArgument
  refine Ex_iload_n dX1_requireArgument_0 rfl 0 rfl ?_
  refine Ex_if_ne (tgt := 12) dX1_requireArgument_1 (by decide) ?_ ?_
  · exact Ex_vreturn dX1_requireArgument_12 rfl
  · exact Ex_th ["java/lang/RuntimeException", "java/lang/Exception"] (by decide) (by decide) q1746 q85 at_X1_9 dX1_requireArgument_4 dX1_requireArgument_7 dX1_requireArgument_8 dX1_requireArgument_11 (fun _ hz => nomatch hz) (by decide) (Nat.le_of_ble_eq_true rfl)
-- QuorumAlmanac.leader(I)LQuorumAlmanac$Node;
def m_X1_leader (a0 : Nat) (x1 : Int32) : Ms Nat :=
  bd (ko [1] a0 (m_X1_node a0 x1)) fun r26 =>
  gI [2] 5 r26 fun x27 =>
  jn (fun (v28 : Int32) =>
      bd (m_X1_requireState v28) fun _ =>
      rt r26)
    fun j29 =>
    jn (fun (v30 : Unit) =>
        j29 0)
      fun j31 =>
      if x27 = 0 then
        j31 ()
      else
        gI [2] 6 r26 fun x32 =>
        if ¬ x32 = 108 then
          j31 ()
        else
          j29 1
theorem hm_X1_leader : (yX1_leader.cls ≠ "java/lang/invoke/MethodHandle" ∧ yX1_leader.cls ≠ "java/lang/invoke/VarHandle" ∧ (parseMethodDescriptor yX1_leader.desc).map (fun d => d.parameters.length) = some 1) := by decide +kernel
set_option maxHeartbeats 4000000 in
set_option maxRecDepth 100000 in
theorem L_X1_leader {G : GT} (hG : GOK G) (a0 : Nat) (x1 : Int32) : Cal G yX1_leader (ws_ yX1_leader cX1_leader 3 (Option.some (Jvm.ClassFile.FieldType.object "QuorumAlmanac$Node"))) 8 130 [.ref a0, .int x1] rR (m_X1_leader a0 x1) := by
  refine Cal_of hG (by decide +kernel) (Nat.le_of_ble_eq_true rfl) (lv0 := [(0, .ref a0), (1, .int x1)]) rfl (fun X σ0 => ?_)
  delta m_X1_leader
  refine Ex_aload_n dX1_leader_0 rfl 0 rfl ?_
  refine Ex_iload_n dX1_leader_1 rfl 1 rfl ?_
  refine Ex_bdR (Inv_V (L_X1_node hG a0 x1) (lw_V q874 q876 qs5 q45 q877) oe_1 ⟨rfl, hm_X1_node⟩ (by decide) (by decide) dX1_leader_2 rfl (Nat.le_of_ble_eq_true rfl)) (fun _ hz => nomatch hz) (fun r26 => ?_)
  refine Ex_astore_n (lv' := [(0, .ref a0), (1, .int x1), (2, .ref r26)]) dX1_leader_5 rfl (by decide) [1, 2, 0] rfl ?_
  refine Ex_aload_n dX1_leader_6 rfl 2 rfl ?_
  refine Ex_gI dX1_leader_7 lk_X1_113 rfl (fun x27 => ?_)
  refine Ex_jn (γ := Int32) (pj := 27) (fun v28 => [(2, .ref r26)]) (fun v28 => [.int v28]) (fun v28 => ?_) (fun j29 hj29 => ?_)
  · refine Ex_bdU (Inv_S (L_X1_requireState hG v28) (lw_S q905 q906 q45 q907) hm_X1_requireState (by decide) (by decide) dX1_leader_27 rfl (Nat.le_of_ble_eq_true rfl)) (fun _ hz => nomatch hz) (fun _ => ?_)
    refine Ex_aload_n dX1_leader_30 rfl 0 rfl ?_
    exact Ex_areturn dX1_leader_31 rfl (Or.inl ⟨_, rfl⟩)
  · refine Ex_jn (γ := Unit) (pj := 26) (fun v30 => [(2, .ref r26)]) (fun v30 => []) (fun v30 => ?_) (fun j31 hj31 => ?_)
    · refine Ex_iconst (v := 0) dX1_leader_26 (by decide) ?_
      exact hj29 0
    · refine Ex_if_eq (tgt := 26) dX1_leader_10 (by decide) ?_ ?_
      · refine Ex_lv [2] (lv' := [(2, .ref r26)]) rfl ?_
        exact hj31 ()
      · refine Ex_aload_n dX1_leader_13 rfl 2 rfl ?_
        refine Ex_gI dX1_leader_14 lk_X1_152 rfl (fun x32 => ?_)
        refine Ex_bipush (v := 108) dX1_leader_17 (by decide) ?_
        refine Ex_icmp_ne (tgt := 26) dX1_leader_19 (by decide) ?_ ?_
        · refine Ex_lv [2] (lv' := [(2, .ref r26)]) rfl ?_
          exact hj31 ()
        · refine Ex_iconst (v := 1) dX1_leader_22 (by decide) ?_
          refine Ex_goto (tgt := 27) dX1_leader_23 (by decide) ?_
          refine Ex_lv [2] (lv' := [(2, .ref r26)]) rfl ?_
          exact hj29 1
-- QuorumAlmanac.propose(LQuorumAlmanac$Node;CII)I
def m_X1_propose (a0 : Nat) (a1 : Nat) (x2 : Int32) (x3 : Int32) (x4 : Int32) : Ms Int32 :=
  gR [2] 109 a1 fun x30 =>
  nO 9 4 dfl fun a31 =>
  gI [2] 8 a1 fun x32 =>
  bn (m_X15_init a31 x32 x2 x3 x4) fun _ =>
  bn (ko [22] x30 (m_J2_add x30 a31)) fun r33 =>
  bn (ko [2] a1 (m_X2_last a1)) fun r34 =>
  bn (ko [2] a1 (m_X2_beginRound a1)) fun _ =>
  rt r34
theorem hm_X1_propose : (yX1_propose.cls ≠ "java/lang/invoke/MethodHandle" ∧ yX1_propose.cls ≠ "java/lang/invoke/VarHandle" ∧ (parseMethodDescriptor yX1_propose.desc).map (fun d => d.parameters.length) = some 4) := by decide +kernel
set_option maxHeartbeats 4000000 in
set_option maxRecDepth 100000 in
theorem L_X1_propose {G : GT} (hG : GOK G) (a0 : Nat) (a1 : Nat) (x2 : Int32) (x3 : Int32) (x4 : Int32) : Cal G yX1_propose (ws_ yX1_propose cX1_propose 6 (Option.some Jvm.ClassFile.FieldType.int)) 11 258 [.ref a0, .ref a1, .int x2, .int x3, .int x4] rI (m_X1_propose a0 a1 x2 x3 x4) := by
  refine Cal_of hG (by decide +kernel) (Nat.le_of_ble_eq_true rfl) (lv0 := [(0, .ref a0), (1, .ref a1), (2, .int x2), (3, .int x3), (4, .int x4)]) rfl (fun X σ0 => ?_)
  delta m_X1_propose
  refine Ex_aload_n dX1_propose_0 rfl 1 rfl ?_
  refine Ex_gR dX1_propose_1 lk_X1_250 rfl (fun x30 => ?_)
  refine Ex_nO (ci := 8) (q := qcl 8) dX1_propose_4 rfl q742 q1253 q80 (fun a31 => ?_)
  refine Ex_dup rfl dX1_propose_7 ?_
  refine Ex_aload_n dX1_propose_8 rfl 1 rfl ?_
  refine Ex_gI dX1_propose_9 lk_X1_253 rfl (fun x32 => ?_)
  refine Ex_iload_n dX1_propose_12 rfl 2 rfl ?_
  refine Ex_iload_n dX1_propose_13 rfl 3 rfl ?_
  refine Ex_iload dX1_propose_14 4 rfl ?_
  refine Ex_bnU (Inv_I (L_X15_init hG a31 x32 x2 x3 x4) q80 q1756 q1255 q1256 rfl hm_X15_init (by decide) (by decide) dX1_propose_16 rfl (Nat.le_of_ble_eq_true rfl)) (fun _ => ?_)
  refine Ex_bnI (Inv_V (L_J2_add hG x30 a31) (lw_V q1084 q935 q936 q48 q937) oe_22 ⟨rfl, hm_J2_add⟩ (by decide) (by decide) dX1_propose_19 rfl (Nat.le_of_ble_eq_true rfl)) (fun r33 => ?_)
  refine Ex_pop rfl dX1_propose_22 ?_
  refine Ex_aload_n dX1_propose_23 rfl 1 rfl ?_
  refine Ex_bnI (Inv_V (L_X2_last hG a1) (lw_V q107 q108 q109 q50 q110) oe_2 ⟨rfl, hm_X2_last⟩ (by decide) (by decide) dX1_propose_24 rfl (Nat.le_of_ble_eq_true rfl)) (fun r34 => ?_)
  refine Ex_istore (lv' := [(0, .ref a0), (1, .ref a1), (2, .int x2), (3, .int x3), (4, .int x4), (5, .int r34)]) dX1_propose_27 (by decide) [1, 2, 3, 4, 5, 0] rfl ?_
  refine Ex_aload_n dX1_propose_29 rfl 1 rfl ?_
  refine Ex_bnU (Inv_V (L_X2_beginRound hG a1) (lw_V q1757 q930 q931 q50 q932) oe_2 ⟨rfl, hm_X2_beginRound⟩ (by decide) (by decide) dX1_propose_30 rfl (Nat.le_of_ble_eq_true rfl)) (fun _ => ?_)
  refine Ex_iload dX1_propose_33 5 rfl ?_
  exact Ex_ireturn dX1_propose_35 rfl
-- QuorumAlmanac.write(III)I
def m_X1_write (a0 : Nat) (x1 : Int32) (x2 : Int32) (x3 : Int32) : Ms Int32 :=
  bd (ko [1] a0 (m_X1_node a0 x1)) fun r32 =>
  bn (m_X1_isBetween x2 0 19) fun r33 =>
  jn (fun (v34 : Int32) =>
      bd (m_X1_requireArgument v34) fun _ =>
      bd (ko [1] a0 (m_X1_leader a0 x1)) fun r36 =>
      bn (ko [2] r36 (m_X2_last r36)) fun r37 =>
      jn (fun (v38 : Int32) =>
          bd (m_X1_requireState v38) fun _ =>
          bn (ko [1] a0 (m_X1_propose a0 r36 119 x2 x3)) fun r40 =>
          rt r40)
        fun j39 =>
        if 80 ≤ r37 then
          j39 0
        else
          j39 1)
    fun j35 =>
    jn (fun (v41 : Unit) =>
        j35 0)
      fun j42 =>
      if r33 = 0 then
        j42 ()
      else
        bn (m_X1_isBetween x3 (-999) 999) fun r43 =>
        if r43 = 0 then
          j42 ()
        else
          j35 1
theorem hm_X1_write : (yX1_write.cls ≠ "java/lang/invoke/MethodHandle" ∧ yX1_write.cls ≠ "java/lang/invoke/VarHandle" ∧ (parseMethodDescriptor yX1_write.desc).map (fun d => d.parameters.length) = some 3) := by decide +kernel
set_option maxHeartbeats 4000000 in
set_option maxRecDepth 100000 in
theorem L_X1_write {G : GT} (hG : GOK G) (a0 : Nat) (x1 : Int32) (x2 : Int32) (x3 : Int32) : Cal G yX1_write (ws_ yX1_write cX1_write 5 (Option.some Jvm.ClassFile.FieldType.int)) 12 283 [.ref a0, .int x1, .int x2, .int x3] rI (m_X1_write a0 x1 x2 x3) := by
  refine Cal_of hG (by decide +kernel) (Nat.le_of_ble_eq_true rfl) (lv0 := [(0, .ref a0), (1, .int x1), (2, .int x2), (3, .int x3)]) rfl (fun X σ0 => ?_)
  delta m_X1_write
  refine Ex_aload_n dX1_write_0 rfl 0 rfl ?_
  refine Ex_iload_n dX1_write_1 rfl 1 rfl ?_
  refine Ex_bdR (Inv_V (L_X1_node hG a0 x1) (lw_V q874 q876 qs5 q45 q877) oe_1 ⟨rfl, hm_X1_node⟩ (by decide) (by decide) dX1_write_2 rfl (Nat.le_of_ble_eq_true rfl)) (fun _ hz => nomatch hz) (fun r32 => ?_)
  refine Ex_pop rfl dX1_write_5 ?_
  refine Ex_iload_n dX1_write_6 rfl 2 rfl ?_
  refine Ex_iconst (v := 0) dX1_write_7 (by decide) ?_
  refine Ex_bipush (v := 19) dX1_write_8 (by decide) ?_
  refine Ex_bnI (Inv_S (L_X1_isBetween hG x2 0 19) (lw_S q878 q879 q45 q880) hm_X1_isBetween (by decide) (by decide) dX1_write_10 rfl (Nat.le_of_ble_eq_true rfl)) (fun r33 => ?_)
  refine Ex_jn (γ := Int32) (pj := 34) (fun v34 => [(0, .ref a0), (1, .int x1), (2, .int x2), (3, .int x3)]) (fun v34 => [.int v34]) (fun v34 => ?_) (fun j35 hj35 => ?_)
  · refine Ex_bdU (Inv_S (L_X1_requireArgument hG v34) (lw_S q1743 q1744 q45 q1745) hm_X1_requireArgument (by decide) (by decide) dX1_write_34 rfl (Nat.le_of_ble_eq_true rfl)) (fun _ hz => nomatch hz) (fun _ => ?_)
    refine Ex_aload_n dX1_write_37 rfl 0 rfl ?_
    refine Ex_iload_n dX1_write_38 rfl 1 rfl ?_
    refine Ex_bdR (Inv_V (L_X1_leader hG a0 x1) (lw_V q1748 q1750 qs29 q45 q1751) oe_1 ⟨rfl, hm_X1_leader⟩ (by decide) (by decide) dX1_write_39 rfl (Nat.le_of_ble_eq_true rfl)) (fun _ hz => nomatch hz) (fun r36 => ?_)
    refine Ex_astore (lv' := [(0, .ref a0), (1, .int x1), (2, .int x2), (3, .int x3), (4, .ref r36)]) dX1_write_42 (by decide) [1, 2, 3, 4, 0] rfl ?_
    refine Ex_aload dX1_write_44 4 rfl ?_
    refine Ex_bnI (Inv_V (L_X2_last hG r36) (lw_V q107 q108 q109 q50 q110) oe_2 ⟨rfl, hm_X2_last⟩ (by decide) (by decide) dX1_write_46 rfl (Nat.le_of_ble_eq_true rfl)) (fun r37 => ?_)
    refine Ex_bipush (v := 80) dX1_write_49 (by decide) ?_
    refine Ex_jn (γ := Int32) (pj := 59) (fun v38 => [(0, .ref a0), (2, .int x2), (3, .int x3), (4, .ref r36)]) (fun v38 => [.int v38]) (fun v38 => ?_) (fun j39 hj39 => ?_)
    · refine Ex_bdU (Inv_S (L_X1_requireState hG v38) (lw_S q905 q906 q45 q907) hm_X1_requireState (by decide) (by decide) dX1_write_59 rfl (Nat.le_of_ble_eq_true rfl)) (fun _ hz => nomatch hz) (fun _ => ?_)
      refine Ex_aload_n dX1_write_62 rfl 0 rfl ?_
      refine Ex_aload dX1_write_63 3 rfl ?_
      refine Ex_bipush (v := 119) dX1_write_65 (by decide) ?_
      refine Ex_iload_n dX1_write_67 rfl 1 rfl ?_
      refine Ex_iload_n dX1_write_68 rfl 2 rfl ?_
      refine Ex_bnI (Inv_V (L_X1_propose hG a0 r36 119 x2 x3) (lw_V q1752 q1754 qs30 q45 q1755) oe_1 ⟨rfl, hm_X1_propose⟩ (by decide) (by decide) dX1_write_69 rfl (Nat.le_of_ble_eq_true rfl)) (fun r40 => ?_)
      exact Ex_ireturn dX1_write_72 rfl
    · refine Ex_icmp_ge (tgt := 58) dX1_write_51 (by decide) ?_ ?_
      · refine Ex_iconst (v := 0) dX1_write_58 (by decide) ?_
        refine Ex_lv [0, 2, 3, 4] (lv' := [(0, .ref a0), (2, .int x2), (3, .int x3), (4, .ref r36)]) rfl ?_
        exact hj39 0
      · refine Ex_iconst (v := 1) dX1_write_54 (by decide) ?_
        refine Ex_goto (tgt := 59) dX1_write_55 (by decide) ?_
        refine Ex_lv [0, 2, 3, 4] (lv' := [(0, .ref a0), (2, .int x2), (3, .int x3), (4, .ref r36)]) rfl ?_
        exact hj39 1
  · refine Ex_jn (γ := Unit) (pj := 33) (fun v41 => [(0, .ref a0), (1, .int x1), (2, .int x2), (3, .int x3)]) (fun v41 => []) (fun v41 => ?_) (fun j42 hj42 => ?_)
    · refine Ex_iconst (v := 0) dX1_write_33 (by decide) ?_
      exact hj35 0
    · refine Ex_if_eq (tgt := 33) dX1_write_13 (by decide) ?_ ?_
      · exact hj42 ()
      · refine Ex_iload_n dX1_write_16 rfl 3 rfl ?_
        refine Ex_sipush (v := (-999)) dX1_write_17 (by decide) ?_
        refine Ex_sipush (v := 999) dX1_write_20 (by decide) ?_
        refine Ex_bnI (Inv_S (L_X1_isBetween hG x3 (-999) 999) (lw_S q878 q879 q45 q880) hm_X1_isBetween (by decide) (by decide) dX1_write_23 rfl (Nat.le_of_ble_eq_true rfl)) (fun r43 => ?_)
        refine Ex_if_eq (tgt := 33) dX1_write_26 (by decide) ?_ ?_
        · exact hj42 ()
        · refine Ex_iconst (v := 1) dX1_write_29 (by decide) ?_
          refine Ex_goto (tgt := 34) dX1_write_30 (by decide) ?_
          exact hj35 1
-- QuorumAlmanacLaw.write(LQuorumAlmanac;III[J)I
def m_X0_write (a0 : Nat) (x1 : Int32) (x2 : Int32) (x3 : Int32) (a4 : Nat) : Ms Int32 :=
  tr (ko [1] a0 (m_X1_write a0 x1 x2 x3)) (fun r22 =>
    sV 35 a4 0 (.long r22.toInt64) <|
    rt 0) fun e q23 =>
    if e = 0 then
      rt 1
    else 
      if e = 2 then
        rt 2
      else 
        if e = 1 then
          rt 3
        else fl
theorem hm_X0_write : (yX0_write.cls ≠ "java/lang/invoke/MethodHandle" ∧ yX0_write.cls ≠ "java/lang/invoke/VarHandle" ∧ (parseMethodDescriptor yX0_write.desc).map (fun d => d.parameters.length) = some 5) := by decide +kernel
set_option maxHeartbeats 4000000 in
set_option maxRecDepth 100000 in
theorem L_X0_write {G : GT} (hG : GOK G) (a0 : Nat) (x1 : Int32) (x2 : Int32) (x3 : Int32) (a4 : Nat) : Cal G yX0_write (wsW_ yX0_write cX0_write 6 (Option.some Jvm.ClassFile.FieldType.int) [(0, 12, 15, 13), (0, 12, 19, 90), (0, 12, 23, 15)]) 13 307 [.ref a0, .int x1, .int x2, .int x3, .ref a4] rI (m_X0_write a0 x1 x2 x3 a4) := by
  refine Cal_ofH hG (by decide +kernel) (Nat.le_of_ble_eq_true rfl) (tb := [{ startPc := 0, endPc := 12, handlerPc := 15, catchType := 13 }, { startPc := 0, endPc := 12, handlerPc := 19, catchType := 90 }, { startPc := 0, endPc := 12, handlerPc := 23, catchType := 15 }]) rfl (lv0 := [(0, .ref a0), (1, .int x1), (2, .int x2), (3, .int x3), (4, .ref a4)]) rfl (fun X σ0 => ?_)
  delta m_X0_write
  refine Ex_aload dX0_write_0 4 rfl ?_
  refine Ex_iconst (v := 0) dX0_write_2 (by decide) ?_
  refine Ex_aload_n dX0_write_3 rfl 0 rfl ?_
  refine Ex_iload_n dX0_write_4 rfl 1 rfl ?_
  refine Ex_iload_n dX0_write_5 rfl 2 rfl ?_
  refine Ex_iload_n dX0_write_6 rfl 3 rfl ?_
  refine Ex_trI (Inv_V (L_X1_write hG a0 x1 x2 x3) (lw_V q1739 q1740 q1741 q45 q1742) oe_1 ⟨rfl, hm_X1_write⟩ (by decide) (by decide) dX0_write_7 rfl (Nat.le_of_ble_eq_true rfl)) (fun r22 => ?_) (fun e q23 => ?_)
  · refine Ex_i2l dX0_write_10 ?_
    refine Ex_last dX0_write_11 ?_
    refine Ex_goto (tgt := 27) dX0_write_12 (by decide) ?_
    refine Ex_iconst (v := 0) dX0_write_27 (by decide) ?_
    exact Ex_ireturn dX0_write_28 rfl
  · refine ExT_if (e0 := 0) ?_ ?_
    · refine ExT_catch (name := "java/lang/IndexOutOfBoundsException") [] { startPc := 0, endPc := 12, handlerPc := 15, catchType := 13 } [{ startPc := 0, endPc := 12, handlerPc := 19, catchType := 90 }, { startPc := 0, endPc := 12, handlerPc := 23, catchType := 15 }] rfl (fun _ hz => nomatch hz) rfl (by decide) q784 q886 ?_
      refine Ex_astore (lv' := [(0, .ref a0), (1, .int x1), (2, .int x2), (3, .int x3), (4, .ref a4), (5, .ref q23)]) dX0_write_15 (by decide) [1, 2, 3, 4, 5, 0] rfl ?_
      refine Ex_iconst (v := 1) dX0_write_17 (by decide) ?_
      exact Ex_ireturn dX0_write_18 rfl
    · refine ExT_if (e0 := 2) ?_ ?_
      · refine ExT_catch (name := "java/lang/IllegalArgumentException") [{ startPc := 0, endPc := 12, handlerPc := 15, catchType := 13 }] { startPc := 0, endPc := 12, handlerPc := 19, catchType := 90 } [{ startPc := 0, endPc := 12, handlerPc := 23, catchType := 15 }] rfl (List.forall_mem_cons.mpr ⟨Or.inr ⟨by decide, "java/lang/IndexOutOfBoundsException", q784, nc_2_0⟩, fun _ hz => nomatch hz⟩) rfl (by decide) q1738 q1619 ?_
        refine Ex_astore (lv' := [(0, .ref a0), (1, .int x1), (2, .int x2), (3, .int x3), (4, .ref a4), (5, .ref q23)]) dX0_write_19 (by decide) [1, 2, 3, 4, 5, 0] rfl ?_
        refine Ex_iconst (v := 2) dX0_write_21 (by decide) ?_
        exact Ex_ireturn dX0_write_22 rfl
      · refine ExT_if (e0 := 1) ?_ ?_
        · refine ExT_catch (name := "java/lang/IllegalStateException") [{ startPc := 0, endPc := 12, handlerPc := 15, catchType := 13 }, { startPc := 0, endPc := 12, handlerPc := 19, catchType := 90 }] { startPc := 0, endPc := 12, handlerPc := 23, catchType := 15 } [] rfl (List.forall_mem_cons.mpr ⟨Or.inr ⟨by decide, "java/lang/IndexOutOfBoundsException", q784, nc_1_0⟩, List.forall_mem_cons.mpr ⟨Or.inr ⟨by decide, "java/lang/IllegalArgumentException", q1738, nc_1_2⟩, fun _ hz => nomatch hz⟩⟩) rfl (by decide) q865 q910 ?_
          refine Ex_astore (lv' := [(0, .ref a0), (1, .int x1), (2, .int x2), (3, .int x3), (4, .ref a4), (5, .ref q23)]) dX0_write_23 (by decide) [1, 2, 3, 4, 5, 0] rfl ?_
          refine Ex_iconst (v := 3) dX0_write_25 (by decide) ?_
          exact Ex_ireturn dX0_write_26 rfl
        · exact ExT_fl
-- QuorumAlmanac.reshape(IIZ)I
def m_X1_reshape (a0 : Nat) (x1 : Int32) (x2 : Int32) (x3 : Int32) : Ms Int32 :=
  bd (ko [1] a0 (m_X1_node a0 x1)) fun r30 =>
  bn (m_X1_isBetween x2 1 19) fun r31 =>
  bd (m_X1_requireArgument r31) fun _ =>
  bd (ko [1] a0 (m_X1_leader a0 x1)) fun r32 =>
  bn (ko [2] r32 (m_X2_last r32)) fun r33 =>
  jn (fun (v34 : Int32) =>
      bd (m_X1_requireState v34) fun _ =>
      jn (fun (v36 : Int32 × Nat × Nat) =>
          bn (ko [1] v36.2.2 (m_X1_propose v36.2.2 v36.2.1 v36.1 x2 0)) fun r38 =>
          rt r38)
        fun j37 =>
        if x3 = 0 then
          j37 (109, r32, a0)
        else
          j37 (115, r32, a0))
    fun j35 =>
    if 80 ≤ r33 then
      j35 0
    else
      j35 1
theorem hm_X1_reshape : (yX1_reshape.cls ≠ "java/lang/invoke/MethodHandle" ∧ yX1_reshape.cls ≠ "java/lang/invoke/VarHandle" ∧ (parseMethodDescriptor yX1_reshape.desc).map (fun d => d.parameters.length) = some 3) := by decide +kernel
set_option maxHeartbeats 4000000 in
set_option maxRecDepth 100000 in
theorem L_X1_reshape {G : GT} (hG : GOK G) (a0 : Nat) (x1 : Int32) (x2 : Int32) (x3 : Int32) : Cal G yX1_reshape (ws_ yX1_reshape cX1_reshape 5 (Option.some Jvm.ClassFile.FieldType.int)) 12 283 [.ref a0, .int x1, .int x2, .int x3] rI (m_X1_reshape a0 x1 x2 x3) := by
  refine Cal_of hG (by decide +kernel) (Nat.le_of_ble_eq_true rfl) (lv0 := [(0, .ref a0), (1, .int x1), (2, .int x2), (3, .int x3)]) rfl (fun X σ0 => ?_)
  delta m_X1_reshape
  refine Ex_aload_n dX1_reshape_0 rfl 0 rfl ?_
  refine Ex_iload_n dX1_reshape_1 rfl 1 rfl ?_
  refine Ex_bdR (Inv_V (L_X1_node hG a0 x1) (lw_V q874 q876 qs5 q45 q877) oe_1 ⟨rfl, hm_X1_node⟩ (by decide) (by decide) dX1_reshape_2 rfl (Nat.le_of_ble_eq_true rfl)) (fun _ hz => nomatch hz) (fun r30 => ?_)
  refine Ex_pop rfl dX1_reshape_5 ?_
  refine Ex_iload_n dX1_reshape_6 rfl 2 rfl ?_
  refine Ex_iconst (v := 1) dX1_reshape_7 (by decide) ?_
  refine Ex_bipush (v := 19) dX1_reshape_8 (by decide) ?_
  refine Ex_bnI (Inv_S (L_X1_isBetween hG x2 1 19) (lw_S q878 q879 q45 q880) hm_X1_isBetween (by decide) (by decide) dX1_reshape_10 rfl (Nat.le_of_ble_eq_true rfl)) (fun r31 => ?_)
  refine Ex_bdU (Inv_S (L_X1_requireArgument hG r31) (lw_S q1743 q1744 q45 q1745) hm_X1_requireArgument (by decide) (by decide) dX1_reshape_13 rfl (Nat.le_of_ble_eq_true rfl)) (fun _ hz => nomatch hz) (fun _ => ?_)
  refine Ex_aload_n dX1_reshape_16 rfl 0 rfl ?_
  refine Ex_iload_n dX1_reshape_17 rfl 1 rfl ?_
  refine Ex_bdR (Inv_V (L_X1_leader hG a0 x1) (lw_V q1748 q1750 qs29 q45 q1751) oe_1 ⟨rfl, hm_X1_leader⟩ (by decide) (by decide) dX1_reshape_18 rfl (Nat.le_of_ble_eq_true rfl)) (fun _ hz => nomatch hz) (fun r32 => ?_)
  refine Ex_astore (lv' := [(0, .ref a0), (1, .int x1), (2, .int x2), (3, .int x3), (4, .ref r32)]) dX1_reshape_21 (by decide) [1, 2, 3, 4, 0] rfl ?_
  refine Ex_aload dX1_reshape_23 4 rfl ?_
  refine Ex_bnI (Inv_V (L_X2_last hG r32) (lw_V q107 q108 q109 q50 q110) oe_2 ⟨rfl, hm_X2_last⟩ (by decide) (by decide) dX1_reshape_25 rfl (Nat.le_of_ble_eq_true rfl)) (fun r33 => ?_)
  refine Ex_bipush (v := 80) dX1_reshape_28 (by decide) ?_
  refine Ex_jn (γ := Int32) (pj := 38) (fun v34 => [(0, .ref a0), (2, .int x2), (3, .int x3), (4, .ref r32)]) (fun v34 => [.int v34]) (fun v34 => ?_) (fun j35 hj35 => ?_)
  · refine Ex_bdU (Inv_S (L_X1_requireState hG v34) (lw_S q905 q906 q45 q907) hm_X1_requireState (by decide) (by decide) dX1_reshape_38 rfl (Nat.le_of_ble_eq_true rfl)) (fun _ hz => nomatch hz) (fun _ => ?_)
    refine Ex_aload_n dX1_reshape_41 rfl 0 rfl ?_
    refine Ex_aload dX1_reshape_42 3 rfl ?_
    refine Ex_iload_n dX1_reshape_44 rfl 2 rfl ?_
    refine Ex_jn (γ := Int32 × Nat × Nat) (pj := 55) (fun v36 => [(2, .int x2)]) (fun v36 => [.int v36.1, .ref v36.2.1, .ref v36.2.2]) (fun v36 => ?_) (fun j37 hj37 => ?_)
    · refine Ex_iload_n dX1_reshape_55 rfl 0 rfl ?_
      refine Ex_iconst (v := 0) dX1_reshape_56 (by decide) ?_
      refine Ex_bnI (Inv_V (L_X1_propose hG v36.2.2 v36.2.1 v36.1 x2 0) (lw_V q1752 q1754 qs30 q45 q1755) oe_1 ⟨rfl, hm_X1_propose⟩ (by decide) (by decide) dX1_reshape_57 rfl (Nat.le_of_ble_eq_true rfl)) (fun r38 => ?_)
      exact Ex_ireturn dX1_reshape_60 rfl
    · refine Ex_if_eq (tgt := 53) dX1_reshape_45 (by decide) ?_ ?_
      · refine Ex_bipush (v := 109) dX1_reshape_53 (by decide) ?_
        refine Ex_lv [1] (lv' := [(2, .int x2)]) rfl ?_
        exact hj37 (109, r32, a0)
      · refine Ex_bipush (v := 115) dX1_reshape_48 (by decide) ?_
        refine Ex_goto (tgt := 55) dX1_reshape_50 (by decide) ?_
        refine Ex_lv [1] (lv' := [(2, .int x2)]) rfl ?_
        exact hj37 (115, r32, a0)
  · refine Ex_icmp_ge (tgt := 37) dX1_reshape_30 (by decide) ?_ ?_
    · refine Ex_iconst (v := 0) dX1_reshape_37 (by decide) ?_
      refine Ex_lv [0, 2, 3, 4] (lv' := [(0, .ref a0), (2, .int x2), (3, .int x3), (4, .ref r32)]) rfl ?_
      exact hj35 0
    · refine Ex_iconst (v := 1) dX1_reshape_33 (by decide) ?_
      refine Ex_goto (tgt := 38) dX1_reshape_34 (by decide) ?_
      refine Ex_lv [0, 2, 3, 4] (lv' := [(0, .ref a0), (2, .int x2), (3, .int x3), (4, .ref r32)]) rfl ?_
      exact hj35 1
-- QuorumAlmanacLaw.reshape(LQuorumAlmanac;IIZ[J)I
def m_X0_reshape (a0 : Nat) (x1 : Int32) (x2 : Int32) (x3 : Int32) (a4 : Nat) : Ms Int32 :=
  tr (ko [1] a0 (m_X1_reshape a0 x1 x2 x3)) (fun r22 =>
    sV 35 a4 0 (.long r22.toInt64) <|
    rt 0) fun e q23 =>
    if e = 0 then
      rt 1
    else 
      if e = 2 then
        rt 2
      else 
        if e = 1 then
          rt 3
        else fl
theorem hm_X0_reshape : (yX0_reshape.cls ≠ "java/lang/invoke/MethodHandle" ∧ yX0_reshape.cls ≠ "java/lang/invoke/VarHandle" ∧ (parseMethodDescriptor yX0_reshape.desc).map (fun d => d.parameters.length) = some 5) := by decide +kernel
set_option maxHeartbeats 4000000 in
set_option maxRecDepth 100000 in
theorem L_X0_reshape {G : GT} (hG : GOK G) (a0 : Nat) (x1 : Int32) (x2 : Int32) (x3 : Int32) (a4 : Nat) : Cal G yX0_reshape (wsW_ yX0_reshape cX0_reshape 6 (Option.some Jvm.ClassFile.FieldType.int) [(0, 12, 15, 13), (0, 12, 19, 90), (0, 12, 23, 15)]) 13 307 [.ref a0, .int x1, .int x2, .int x3, .ref a4] rI (m_X0_reshape a0 x1 x2 x3 a4) := by
  refine Cal_ofH hG (by decide +kernel) (Nat.le_of_ble_eq_true rfl) (tb := [{ startPc := 0, endPc := 12, handlerPc := 15, catchType := 13 }, { startPc := 0, endPc := 12, handlerPc := 19, catchType := 90 }, { startPc := 0, endPc := 12, handlerPc := 23, catchType := 15 }]) rfl (lv0 := [(0, .ref a0), (1, .int x1), (2, .int x2), (3, .int x3), (4, .ref a4)]) rfl (fun X σ0 => ?_)
  delta m_X0_reshape
  refine Ex_aload dX0_reshape_0 4 rfl ?_
  refine Ex_iconst (v := 0) dX0_reshape_2 (by decide) ?_
  refine Ex_aload_n dX0_reshape_3 rfl 0 rfl ?_
  refine Ex_iload_n dX0_reshape_4 rfl 1 rfl ?_
  refine Ex_iload_n dX0_reshape_5 rfl 2 rfl ?_
  refine Ex_iload_n dX0_reshape_6 rfl 3 rfl ?_
  refine Ex_trI (Inv_V (L_X1_reshape hG a0 x1 x2 x3) (lw_V q1761 q1762 q1763 q45 q1764) oe_1 ⟨rfl, hm_X1_reshape⟩ (by decide) (by decide) dX0_reshape_7 rfl (Nat.le_of_ble_eq_true rfl)) (fun r22 => ?_) (fun e q23 => ?_)
  · refine Ex_i2l dX0_reshape_10 ?_
    refine Ex_last dX0_reshape_11 ?_
    refine Ex_goto (tgt := 27) dX0_reshape_12 (by decide) ?_
    refine Ex_iconst (v := 0) dX0_reshape_27 (by decide) ?_
    exact Ex_ireturn dX0_reshape_28 rfl
  · refine ExT_if (e0 := 0) ?_ ?_
    · refine ExT_catch (name := "java/lang/IndexOutOfBoundsException") [] { startPc := 0, endPc := 12, handlerPc := 15, catchType := 13 } [{ startPc := 0, endPc := 12, handlerPc := 19, catchType := 90 }, { startPc := 0, endPc := 12, handlerPc := 23, catchType := 15 }] rfl (fun _ hz => nomatch hz) rfl (by decide) q784 q886 ?_
      refine Ex_astore (lv' := [(0, .ref a0), (1, .int x1), (2, .int x2), (3, .int x3), (4, .ref a4), (5, .ref q23)]) dX0_reshape_15 (by decide) [1, 2, 3, 4, 5, 0] rfl ?_
      refine Ex_iconst (v := 1) dX0_reshape_17 (by decide) ?_
      exact Ex_ireturn dX0_reshape_18 rfl
    · refine ExT_if (e0 := 2) ?_ ?_
      · refine ExT_catch (name := "java/lang/IllegalArgumentException") [{ startPc := 0, endPc := 12, handlerPc := 15, catchType := 13 }] { startPc := 0, endPc := 12, handlerPc := 19, catchType := 90 } [{ startPc := 0, endPc := 12, handlerPc := 23, catchType := 15 }] rfl (List.forall_mem_cons.mpr ⟨Or.inr ⟨by decide, "java/lang/IndexOutOfBoundsException", q784, nc_2_0⟩, fun _ hz => nomatch hz⟩) rfl (by decide) q1738 q1619 ?_
        refine Ex_astore (lv' := [(0, .ref a0), (1, .int x1), (2, .int x2), (3, .int x3), (4, .ref a4), (5, .ref q23)]) dX0_reshape_19 (by decide) [1, 2, 3, 4, 5, 0] rfl ?_
        refine Ex_iconst (v := 2) dX0_reshape_21 (by decide) ?_
        exact Ex_ireturn dX0_reshape_22 rfl
      · refine ExT_if (e0 := 1) ?_ ?_
        · refine ExT_catch (name := "java/lang/IllegalStateException") [{ startPc := 0, endPc := 12, handlerPc := 15, catchType := 13 }, { startPc := 0, endPc := 12, handlerPc := 19, catchType := 90 }] { startPc := 0, endPc := 12, handlerPc := 23, catchType := 15 } [] rfl (List.forall_mem_cons.mpr ⟨Or.inr ⟨by decide, "java/lang/IndexOutOfBoundsException", q784, nc_1_0⟩, List.forall_mem_cons.mpr ⟨Or.inr ⟨by decide, "java/lang/IllegalArgumentException", q1738, nc_1_2⟩, fun _ hz => nomatch hz⟩⟩) rfl (by decide) q865 q910 ?_
          refine Ex_astore (lv' := [(0, .ref a0), (1, .int x1), (2, .int x2), (3, .int x3), (4, .ref a4), (5, .ref q23)]) dX0_reshape_23 (by decide) [1, 2, 3, 4, 5, 0] rfl ?_
          refine Ex_iconst (v := 3) dX0_reshape_25 (by decide) ?_
          exact Ex_ireturn dX0_reshape_26 rfl
        · exact ExT_fl
-- QuorumAlmanac.change(II)I
def m_X1_change (a0 : Nat) (x1 : Int32) (x2 : Int32) : Ms Int32 :=
  bd (ko [1] a0 (m_X1_node a0 x1)) fun r48 =>
  bn (m_X1_isBetween x2 1 31) fun r49 =>
  bd (m_X1_requireArgument r49) fun _ =>
  bd (ko [1] a0 (m_X1_leader a0 x1)) fun r50 =>
  bn (ko [2] r50 (m_X2_last r50)) fun r51 =>
  jn (fun (v52 : Int32) =>
      bd (m_X1_requireState v52) fun _ =>
      bn (ko [2] r50 (m_X2_members r50)) fun r54 =>
      bn (ko [3] r54 (m_X3_areTwo r54)) fun r55 =>
      jn (fun (v56 : Int32) =>
          gI [2] 13 r50 fun x58 =>
          lp (fun j60 (v59 : Int32 × Int32) =>
              bn (ko [2] r50 (m_X2_last r50)) fun r61 =>
              if r61 < v59.2 then
                if v59.1 = 0 then
                  bn (ko [2] r50 (m_X2_members r50)) fun r62 =>
                  gI [3] 19 r62 fun x63 =>
                  bn (ko [1] a0 (m_X1_propose a0 r50 106 x2 x63)) fun r64 =>
                  rt r64
                else
                  th 4
              else
                jn (fun (v65 : Int32) =>
                    j60 (v65, (v59.2 + 1)))
                  fun j66 =>
                  jn (fun (v67 : Unit) =>
                      j66 1)
                    fun j68 =>
                    if ¬ v59.1 = 0 then
                      j68 ()
                    else
                      bn (ko [2] r50 (m_X2_entry r50 v59.2)) fun r69 =>
                      gI [9] 33 r69 fun x70 =>
                      if ¬ x70 = 110 then
                        j66 0
                      else
                        j68 ())
            (v56, (x58 + 1)))
        fun j57 =>
        jn (fun (v71 : Unit) =>
            j57 1)
          fun j72 =>
          if ¬ r55 = 0 then
            j72 ()
          else
            bn (ko [2] r50 (m_X2_hasCommittedOwn r50)) fun r73 =>
            if ¬ r73 = 0 then
              j57 0
            else
              j72 ())
    fun j53 =>
    if 79 ≤ r51 then
      j53 0
    else
      j53 1
theorem hm_X1_change : (yX1_change.cls ≠ "java/lang/invoke/MethodHandle" ∧ yX1_change.cls ≠ "java/lang/invoke/VarHandle" ∧ (parseMethodDescriptor yX1_change.desc).map (fun d => d.parameters.length) = some 2) := by decide +kernel
set_option maxHeartbeats 4000000 in
set_option maxRecDepth 100000 in
theorem L_X1_change {G : GT} (hG : GOK G) (a0 : Nat) (x1 : Int32) (x2 : Int32) : Cal G yX1_change (ws_ yX1_change cX1_change 6 (Option.some Jvm.ClassFile.FieldType.int)) 12 283 [.ref a0, .int x1, .int x2] rI (m_X1_change a0 x1 x2) := by
  refine Cal_of hG (by decide +kernel) (Nat.le_of_ble_eq_true rfl) (lv0 := [(0, .ref a0), (1, .int x1), (2, .int x2)]) rfl (fun X σ0 => ?_)
  delta m_X1_change
  refine Ex_aload_n dX1_change_0 rfl 0 rfl ?_
  refine Ex_iload_n dX1_change_1 rfl 1 rfl ?_
  refine Ex_bdR (Inv_V (L_X1_node hG a0 x1) (lw_V q874 q876 qs5 q45 q877) oe_1 ⟨rfl, hm_X1_node⟩ (by decide) (by decide) dX1_change_2 rfl (Nat.le_of_ble_eq_true rfl)) (fun _ hz => nomatch hz) (fun r48 => ?_)
  refine Ex_pop rfl dX1_change_5 ?_
  refine Ex_iload_n dX1_change_6 rfl 2 rfl ?_
  refine Ex_iconst (v := 1) dX1_change_7 (by decide) ?_
  refine Ex_bipush (v := 31) dX1_change_8 (by decide) ?_
  refine Ex_bnI (Inv_S (L_X1_isBetween hG x2 1 31) (lw_S q878 q879 q45 q880) hm_X1_isBetween (by decide) (by decide) dX1_change_10 rfl (Nat.le_of_ble_eq_true rfl)) (fun r49 => ?_)
  refine Ex_bdU (Inv_S (L_X1_requireArgument hG r49) (lw_S q1743 q1744 q45 q1745) hm_X1_requireArgument (by decide) (by decide) dX1_change_13 rfl (Nat.le_of_ble_eq_true rfl)) (fun _ hz => nomatch hz) (fun _ => ?_)
  refine Ex_aload_n dX1_change_16 rfl 0 rfl ?_
  refine Ex_iload_n dX1_change_17 rfl 1 rfl ?_
  refine Ex_bdR (Inv_V (L_X1_leader hG a0 x1) (lw_V q1748 q1750 qs29 q45 q1751) oe_1 ⟨rfl, hm_X1_leader⟩ (by decide) (by decide) dX1_change_18 rfl (Nat.le_of_ble_eq_true rfl)) (fun _ hz => nomatch hz) (fun r50 => ?_)
  refine Ex_astore_n (lv' := [(0, .ref a0), (1, .int x1), (2, .int x2), (3, .ref r50)]) dX1_change_21 rfl (by decide) [1, 2, 3, 0] rfl ?_
  refine Ex_aload_n dX1_change_22 rfl 3 rfl ?_
  refine Ex_bnI (Inv_V (L_X2_last hG r50) (lw_V q107 q108 q109 q50 q110) oe_2 ⟨rfl, hm_X2_last⟩ (by decide) (by decide) dX1_change_23 rfl (Nat.le_of_ble_eq_true rfl)) (fun r51 => ?_)
  refine Ex_bipush (v := 79) dX1_change_26 (by decide) ?_
  refine Ex_jn (γ := Int32) (pj := 36) (fun v52 => [(0, .ref a0), (2, .int x2), (3, .ref r50)]) (fun v52 => [.int v52]) (fun v52 => ?_) (fun j53 hj53 => ?_)
  · refine Ex_bdU (Inv_S (L_X1_requireState hG v52) (lw_S q905 q906 q45 q907) hm_X1_requireState (by decide) (by decide) dX1_change_36 rfl (Nat.le_of_ble_eq_true rfl)) (fun _ hz => nomatch hz) (fun _ => ?_)
    refine Ex_aload_n dX1_change_39 rfl 2 rfl ?_
    refine Ex_bnR (Inv_V (L_X2_members hG r50) (lw_V q1462 q975 q976 q50 q977) oe_2 ⟨rfl, hm_X2_members⟩ (by decide) (by decide) dX1_change_40 rfl (Nat.le_of_ble_eq_true rfl)) (fun r54 => ?_)
    refine Ex_bnI (Inv_V (L_X3_areTwo hG r54) (lw_V q1773 q1320 q1321 q51 q1322) oe_3 ⟨rfl, hm_X3_areTwo⟩ (by decide) (by decide) dX1_change_43 rfl (Nat.le_of_ble_eq_true rfl)) (fun r55 => ?_)
    refine Ex_jn (γ := Int32) (pj := 61) (fun v56 => [(0, .ref a0), (2, .int x2), (3, .ref r50)]) (fun v56 => [.int v56]) (fun v56 => ?_) (fun j57 hj57 => ?_)
    · refine Ex_istore (lv' := [(0, .ref a0), (2, .int x2), (3, .ref r50), (4, .int v56)]) dX1_change_61 (by decide) [1, 2, 3, 0] rfl ?_
      refine Ex_aload_n dX1_change_63 rfl 2 rfl ?_
      refine Ex_gI dX1_change_64 lk_X1_137 rfl (fun x58 => ?_)
      refine Ex_iconst (v := 1) dX1_change_67 (by decide) ?_
      refine Ex_iadd dX1_change_68 ?_
      refine Ex_istore (lv' := [(0, .ref a0), (2, .int x2), (3, .ref r50), (4, .int v56), (5, .int (x58 + 1))]) dX1_change_69 (by decide) [1, 2, 3, 4, 0] rfl ?_
      refine Ex_lp (γ := Int32 × Int32) (pj := 71) (fun v59 => [(0, .ref a0), (2, .int x2), (3, .ref r50), (4, .int v59.1), (5, .int v59.2)]) (fun v59 => []) (fun j60 hj60 v59 => ?_) (v56, (x58 + 1)) rfl rfl
      refine Ex_iload dX1_change_71 4 rfl ?_
      refine Ex_aload_n dX1_change_73 rfl 2 rfl ?_
      refine Ex_bnI (Inv_V (L_X2_last hG r50) (lw_V q107 q108 q109 q50 q110) oe_2 ⟨rfl, hm_X2_last⟩ (by decide) (by decide) dX1_change_74 rfl (Nat.le_of_ble_eq_true rfl)) (fun r61 => ?_)
      refine Ex_icmp_gt (tgt := 112) dX1_change_77 (by decide) ?_ ?_
      · refine Ex_iload dX1_change_112 3 rfl ?_
        refine Ex_if_eq (tgt := 125) dX1_change_114 (by decide) ?_ ?_
        · refine Ex_aload_n dX1_change_125 rfl 0 rfl ?_
          refine Ex_aload_n dX1_change_126 rfl 2 rfl ?_
          refine Ex_bipush (v := 106) dX1_change_127 (by decide) ?_
          refine Ex_iload_n dX1_change_129 rfl 1 rfl ?_
          refine Ex_aload_n dX1_change_130 rfl 2 rfl ?_
          refine Ex_bnR (Inv_V (L_X2_members hG r50) (lw_V q1462 q975 q976 q50 q977) oe_2 ⟨rfl, hm_X2_members⟩ (by decide) (by decide) dX1_change_131 rfl (Nat.le_of_ble_eq_true rfl)) (fun r62 => ?_)
          refine Ex_gI dX1_change_134 lk_X1_282 rfl (fun x63 => ?_)
          refine Ex_bnI (Inv_V (L_X1_propose hG a0 r50 106 x2 x63) (lw_V q1752 q1754 qs30 q45 q1755) oe_1 ⟨rfl, hm_X1_propose⟩ (by decide) (by decide) dX1_change_137 rfl (Nat.le_of_ble_eq_true rfl)) (fun r64 => ?_)
          exact Ex_ireturn dX1_change_140 rfl
        · exact Ex_th ["java/lang/RuntimeException", "java/lang/Exception"] (by decide) (by decide) q1775 q87 at_X1_281 dX1_change_117 dX1_change_120 dX1_change_121 dX1_change_124 (fun _ hz => nomatch hz) (by decide) (Nat.le_of_ble_eq_true rfl)
      · refine Ex_iload dX1_change_80 3 rfl ?_
        refine Ex_jn (γ := Int32) (pj := 104) (fun v65 => [(0, .ref a0), (2, .int x2), (3, .ref r50), (5, .int v59.2)]) (fun v65 => [.int v65]) (fun v65 => ?_) (fun j66 hj66 => ?_)
        · refine Ex_istore (lv' := [(0, .ref a0), (2, .int x2), (3, .ref r50), (4, .int v65), (5, .int v59.2)]) dX1_change_104 (by decide) [1, 2, 3, 0, 4] rfl ?_
          refine Ex_iinc (j := 4) (lv' := [(0, .ref a0), (2, .int x2), (3, .ref r50), (4, .int v65), (5, .int (v59.2 + 1))]) dX1_change_106 rfl rfl (by decide) [1, 2, 3, 4, 0] rfl ?_
          refine Ex_goto (tgt := 71) dX1_change_109 (by decide) ?_
          exact hj60 (v65, (v59.2 + 1))
        · refine Ex_jn (γ := Unit) (pj := 99) (fun v67 => [(0, .ref a0), (2, .int x2), (3, .ref r50), (5, .int v59.2)]) (fun v67 => []) (fun v67 => ?_) (fun j68 hj68 => ?_)
          · refine Ex_iconst (v := 1) dX1_change_99 (by decide) ?_
            refine Ex_goto (tgt := 104) dX1_change_100 (by decide) ?_
            exact hj66 1
          · refine Ex_if_ne (tgt := 99) dX1_change_82 (by decide) ?_ ?_
            · refine Ex_lv [0, 1, 2, 4] (lv' := [(0, .ref a0), (2, .int x2), (3, .ref r50), (5, .int v59.2)]) rfl ?_
              exact hj68 ()
            · refine Ex_aload_n dX1_change_85 rfl 2 rfl ?_
              refine Ex_iload dX1_change_86 4 rfl ?_
              refine Ex_bnR (Inv_V (L_X2_entry hG r50 v59.2) (lw_V q410 q411 q412 q50 q413) oe_2 ⟨rfl, hm_X2_entry⟩ (by decide) (by decide) dX1_change_88 rfl (Nat.le_of_ble_eq_true rfl)) (fun r69 => ?_)
              refine Ex_gI dX1_change_91 lk_X1_192 rfl (fun x70 => ?_)
              refine Ex_bipush (v := 110) dX1_change_94 (by decide) ?_
              refine Ex_icmp_ne (tgt := 103) dX1_change_96 (by decide) ?_ ?_
              · refine Ex_iconst (v := 0) dX1_change_103 (by decide) ?_
                refine Ex_lv [0, 1, 2, 4] (lv' := [(0, .ref a0), (2, .int x2), (3, .ref r50), (5, .int v59.2)]) rfl ?_
                exact hj66 0
              · refine Ex_lv [0, 1, 2, 4] (lv' := [(0, .ref a0), (2, .int x2), (3, .ref r50), (5, .int v59.2)]) rfl ?_
                exact hj68 ()
    · refine Ex_jn (γ := Unit) (pj := 56) (fun v71 => [(0, .ref a0), (2, .int x2), (3, .ref r50)]) (fun v71 => []) (fun v71 => ?_) (fun j72 hj72 => ?_)
      · refine Ex_iconst (v := 1) dX1_change_56 (by decide) ?_
        refine Ex_goto (tgt := 61) dX1_change_57 (by decide) ?_
        exact hj57 1
      · refine Ex_if_ne (tgt := 56) dX1_change_46 (by decide) ?_ ?_
        · exact hj72 ()
        · refine Ex_aload_n dX1_change_49 rfl 2 rfl ?_
          refine Ex_bnI (Inv_V (L_X2_hasCommittedOwn hG r50) (lw_V q1774 q1670 q1671 q50 q1672) oe_2 ⟨rfl, hm_X2_hasCommittedOwn⟩ (by decide) (by decide) dX1_change_50 rfl (Nat.le_of_ble_eq_true rfl)) (fun r73 => ?_)
          refine Ex_if_ne (tgt := 60) dX1_change_53 (by decide) ?_ ?_
          · refine Ex_iconst (v := 0) dX1_change_60 (by decide) ?_
            exact hj57 0
          · exact hj72 ()
  · refine Ex_icmp_ge (tgt := 35) dX1_change_28 (by decide) ?_ ?_
    · refine Ex_iconst (v := 0) dX1_change_35 (by decide) ?_
      refine Ex_lv [0, 2, 3] (lv' := [(0, .ref a0), (2, .int x2), (3, .ref r50)]) rfl ?_
      exact hj53 0
    · refine Ex_iconst (v := 1) dX1_change_31 (by decide) ?_
      refine Ex_goto (tgt := 36) dX1_change_32 (by decide) ?_
      refine Ex_lv [0, 2, 3] (lv' := [(0, .ref a0), (2, .int x2), (3, .ref r50)]) rfl ?_
      exact hj53 1
