-- QuorumAlmanacLaw.change(LQuorumAlmanac;II[J)I
def m_X0_change (a0 : Nat) (x1 : Int32) (x2 : Int32) (a3 : Nat) : Ms Int32 :=
  tr (ko [1] a0 (m_X1_change a0 x1 x2)) (fun r22 =>
    sV 35 a3 0 (.long r22.toInt64) <|
    rt 0) fun e q23 =>
    if e = 0 then
      rt 1
    else 
      if e = 2 then
        rt 2
      else 
        if e = 1 then
          rt 3
        else 
          if e = 4 then
            rt 4
          else fl
theorem hm_X0_change : (yX0_change.cls ≠ "java/lang/invoke/MethodHandle" ∧ yX0_change.cls ≠ "java/lang/invoke/VarHandle" ∧ (parseMethodDescriptor yX0_change.desc).map (fun d => d.parameters.length) = some 4) := by decide +kernel
set_option maxHeartbeats 4000000 in
set_option maxRecDepth 100000 in
theorem L_X0_change {G : GT} (hG : GOK G) (a0 : Nat) (x1 : Int32) (x2 : Int32) (a3 : Nat) : Cal G yX0_change (wsW_ yX0_change cX0_change 5 (Option.some Jvm.ClassFile.FieldType.int) [(0, 10, 13, 13), (0, 10, 17, 90), (0, 10, 21, 15), (0, 10, 25, 99)]) 13 308 [.ref a0, .int x1, .int x2, .ref a3] rI (m_X0_change a0 x1 x2 a3) := by
  refine Cal_ofH hG (by decide +kernel) (Nat.le_of_ble_eq_true rfl) (tb := [{ startPc := 0, endPc := 10, handlerPc := 13, catchType := 13 }, { startPc := 0, endPc := 10, handlerPc := 17, catchType := 90 }, { startPc := 0, endPc := 10, handlerPc := 21, catchType := 15 }, { startPc := 0, endPc := 10, handlerPc := 25, catchType := 99 }]) rfl (lv0 := [(0, .ref a0), (1, .int x1), (2, .int x2), (3, .ref a3)]) rfl (fun X σ0 => ?_)
  delta m_X0_change
  refine Ex_aload_n dX0_change_0 rfl 3 rfl ?_
  refine Ex_iconst (v := 0) dX0_change_1 (by decide) ?_
  refine Ex_aload_n dX0_change_2 rfl 0 rfl ?_
  refine Ex_iload_n dX0_change_3 rfl 1 rfl ?_
  refine Ex_iload_n dX0_change_4 rfl 2 rfl ?_
  refine Ex_trI (Inv_V (L_X1_change hG a0 x1 x2) (lw_V q1769 q1770 q1771 q45 q1772) oe_1 ⟨rfl, hm_X1_change⟩ (by decide) (by decide) dX0_change_5 rfl (Nat.le_of_ble_eq_true rfl)) (fun r22 => ?_) (fun e q23 => ?_)
  · refine Ex_i2l dX0_change_8 ?_
    refine Ex_last dX0_change_9 ?_
    refine Ex_goto (tgt := 29) dX0_change_10 (by decide) ?_
    refine Ex_iconst (v := 0) dX0_change_29 (by decide) ?_
    exact Ex_ireturn dX0_change_30 rfl
  · refine ExT_if (e0 := 0) ?_ ?_
    · refine ExT_catch (name := "java/lang/IndexOutOfBoundsException") [] { startPc := 0, endPc := 10, handlerPc := 13, catchType := 13 } [{ startPc := 0, endPc := 10, handlerPc := 17, catchType := 90 }, { startPc := 0, endPc := 10, handlerPc := 21, catchType := 15 }, { startPc := 0, endPc := 10, handlerPc := 25, catchType := 99 }] rfl (fun _ hz => nomatch hz) rfl (by decide) q784 q886 ?_
      refine Ex_astore (lv' := [(0, .ref a0), (1, .int x1), (2, .int x2), (3, .ref a3), (4, .ref q23)]) dX0_change_13 (by decide) [1, 2, 3, 4, 0] rfl ?_
      refine Ex_iconst (v := 1) dX0_change_15 (by decide) ?_
      exact Ex_ireturn dX0_change_16 rfl
    · refine ExT_if (e0 := 2) ?_ ?_
      · refine ExT_catch (name := "java/lang/IllegalArgumentException") [{ startPc := 0, endPc := 10, handlerPc := 13, catchType := 13 }] { startPc := 0, endPc := 10, handlerPc := 17, catchType := 90 } [{ startPc := 0, endPc := 10, handlerPc := 21, catchType := 15 }, { startPc := 0, endPc := 10, handlerPc := 25, catchType := 99 }] rfl (List.forall_mem_cons.mpr ⟨Or.inr ⟨by decide, "java/lang/IndexOutOfBoundsException", q784, nc_2_0⟩, fun _ hz => nomatch hz⟩) rfl (by decide) q1738 q1619 ?_
        refine Ex_astore (lv' := [(0, .ref a0), (1, .int x1), (2, .int x2), (3, .ref a3), (4, .ref q23)]) dX0_change_17 (by decide) [1, 2, 3, 4, 0] rfl ?_
        refine Ex_iconst (v := 2) dX0_change_19 (by decide) ?_
        exact Ex_ireturn dX0_change_20 rfl
      · refine ExT_if (e0 := 1) ?_ ?_
        · refine ExT_catch (name := "java/lang/IllegalStateException") [{ startPc := 0, endPc := 10, handlerPc := 13, catchType := 13 }, { startPc := 0, endPc := 10, handlerPc := 17, catchType := 90 }] { startPc := 0, endPc := 10, handlerPc := 21, catchType := 15 } [{ startPc := 0, endPc := 10, handlerPc := 25, catchType := 99 }] rfl (List.forall_mem_cons.mpr ⟨Or.inr ⟨by decide, "java/lang/IndexOutOfBoundsException", q784, nc_1_0⟩, List.forall_mem_cons.mpr ⟨Or.inr ⟨by decide, "java/lang/IllegalArgumentException", q1738, nc_1_2⟩, fun _ hz => nomatch hz⟩⟩) rfl (by decide) q865 q910 ?_
          refine Ex_astore (lv' := [(0, .ref a0), (1, .int x1), (2, .int x2), (3, .ref a3), (4, .ref q23)]) dX0_change_21 (by decide) [1, 2, 3, 4, 0] rfl ?_
          refine Ex_iconst (v := 3) dX0_change_23 (by decide) ?_
          exact Ex_ireturn dX0_change_24 rfl
        · refine ExT_if (e0 := 4) ?_ ?_
          · refine ExT_catch (name := "java/lang/UnsupportedOperationException") [{ startPc := 0, endPc := 10, handlerPc := 13, catchType := 13 }, { startPc := 0, endPc := 10, handlerPc := 17, catchType := 90 }, { startPc := 0, endPc := 10, handlerPc := 21, catchType := 15 }] { startPc := 0, endPc := 10, handlerPc := 25, catchType := 99 } [] rfl (List.forall_mem_cons.mpr ⟨Or.inr ⟨by decide, "java/lang/IndexOutOfBoundsException", q784, nc_4_0⟩, List.forall_mem_cons.mpr ⟨Or.inr ⟨by decide, "java/lang/IllegalArgumentException", q1738, nc_4_2⟩, List.forall_mem_cons.mpr ⟨Or.inr ⟨by decide, "java/lang/IllegalStateException", q865, nc_4_1⟩, fun _ hz => nomatch hz⟩⟩⟩) rfl (by decide) q1768 q1777 ?_
            refine Ex_astore (lv' := [(0, .ref a0), (1, .int x1), (2, .int x2), (3, .ref a3), (4, .ref q23)]) dX0_change_25 (by decide) [1, 2, 3, 4, 0] rfl ?_
            refine Ex_iconst (v := 4) dX0_change_27 (by decide) ?_
            exact Ex_ireturn dX0_change_28 rfl
          · exact ExT_fl
-- QuorumAlmanac.hasLease(I)Z
def m_X1_hasLease (a0 : Nat) (x1 : Int32) : Ms Int32 :=
  bd (ko [1] a0 (m_X1_node a0 x1)) fun r24 =>
  bn (ko [2] r24 (m_X2_hasLease r24)) fun r25 =>
  ck (r25 = 0 ∨ r25 = 1) <|
  rt r25
theorem hm_X1_hasLease : (yX1_hasLease.cls ≠ "java/lang/invoke/MethodHandle" ∧ yX1_hasLease.cls ≠ "java/lang/invoke/VarHandle" ∧ (parseMethodDescriptor yX1_hasLease.desc).map (fun d => d.parameters.length) = some 1) := by decide +kernel
set_option maxHeartbeats 4000000 in
set_option maxRecDepth 100000 in
theorem L_X1_hasLease {G : GT} (hG : GOK G) (a0 : Nat) (x1 : Int32) : Cal G yX1_hasLease (ws_ yX1_hasLease cX1_hasLease 2 (Option.some Jvm.ClassFile.FieldType.boolean)) 9 210 [.ref a0, .int x1] rI (m_X1_hasLease a0 x1) := by
  refine Cal_of hG (by decide +kernel) (Nat.le_of_ble_eq_true rfl) (lv0 := [(0, .ref a0), (1, .int x1)]) rfl (fun X σ0 => ?_)
  delta m_X1_hasLease
  refine Ex_aload_n dX1_hasLease_0 rfl 0 rfl ?_
  refine Ex_iload_n dX1_hasLease_1 rfl 1 rfl ?_
  refine Ex_bdR (Inv_V (L_X1_node hG a0 x1) (lw_V q874 q876 qs5 q45 q877) oe_1 ⟨rfl, hm_X1_node⟩ (by decide) (by decide) dX1_hasLease_2 rfl (Nat.le_of_ble_eq_true rfl)) (fun _ hz => nomatch hz) (fun r24 => ?_)
  refine Ex_bnI (Inv_V (L_X2_hasLease hG r24) (lw_V q1797 q1666 q1667 q50 q1668) oe_2 ⟨rfl, hm_X2_hasLease⟩ (by decide) (by decide) dX1_hasLease_5 rfl (Nat.le_of_ble_eq_true rfl)) (fun r25 => ?_)
  refine Ex_ck (fun hz => ?_)
  exact Ex_zreturn dX1_hasLease_8 rfl (zok_n hz)
-- QuorumAlmanacLaw.hasLease(LQuorumAlmanac;I[J)I
def m_X0_hasLease (a0 : Nat) (x1 : Int32) (a2 : Nat) : Ms Int32 :=
  tr (ko [1] a0 (m_X1_hasLease a0 x1)) (fun r22 =>
    jn (fun (v23 : Int64 × Int32 × Nat) =>
        sV 35 v23.2.2 v23.2.1 (.long v23.1) <|
        rt 0)
      fun j24 =>
      if r22 = 0 then
        j24 (0, 0, a2)
      else
        j24 (1, 0, a2)) fun e q25 =>
    if e = 0 then
      rt 1
    else fl
theorem hm_X0_hasLease : (yX0_hasLease.cls ≠ "java/lang/invoke/MethodHandle" ∧ yX0_hasLease.cls ≠ "java/lang/invoke/VarHandle" ∧ (parseMethodDescriptor yX0_hasLease.desc).map (fun d => d.parameters.length) = some 3) := by decide +kernel
set_option maxHeartbeats 4000000 in
set_option maxRecDepth 100000 in
theorem L_X0_hasLease {G : GT} (hG : GOK G) (a0 : Nat) (x1 : Int32) (a2 : Nat) : Cal G yX0_hasLease (wsW_ yX0_hasLease cX0_hasLease 4 (Option.some Jvm.ClassFile.FieldType.int) [(0, 16, 19, 13)]) 10 231 [.ref a0, .int x1, .ref a2] rI (m_X0_hasLease a0 x1 a2) := by
  refine Cal_ofH hG (by decide +kernel) (Nat.le_of_ble_eq_true rfl) (tb := [{ startPc := 0, endPc := 16, handlerPc := 19, catchType := 13 }]) rfl (lv0 := [(0, .ref a0), (1, .int x1), (2, .ref a2)]) rfl (fun X σ0 => ?_)
  delta m_X0_hasLease
  refine Ex_aload_n dX0_hasLease_0 rfl 2 rfl ?_
  refine Ex_iconst (v := 0) dX0_hasLease_1 (by decide) ?_
  refine Ex_aload_n dX0_hasLease_2 rfl 0 rfl ?_
  refine Ex_iload_n dX0_hasLease_3 rfl 1 rfl ?_
  refine Ex_trI (Inv_V (L_X1_hasLease hG a0 x1) (lw_V q1793 q1794 q1795 q45 q1796) oe_1 ⟨rfl, hm_X1_hasLease⟩ (by decide) (by decide) dX0_hasLease_4 rfl (Nat.le_of_ble_eq_true rfl)) (fun r22 => ?_) (fun e q25 => ?_)
  · refine Ex_jn (γ := Int64 × Int32 × Nat) (pj := 15) (fun v23 => []) (fun v23 => [.long v23.1, .int v23.2.1, .ref v23.2.2]) (fun v23 => ?_) (fun j24 hj24 => ?_)
    · refine Ex_last dX0_hasLease_15 ?_
      refine Ex_goto (tgt := 22) dX0_hasLease_16 (by decide) ?_
      refine Ex_iconst (v := 0) dX0_hasLease_22 (by decide) ?_
      exact Ex_ireturn dX0_hasLease_23 rfl
    · refine Ex_if_eq (tgt := 14) dX0_hasLease_7 (by decide) ?_ ?_
      · refine Ex_lconst (v := 0) dX0_hasLease_14 (by decide) ?_
        refine Ex_lv [] (lv' := []) rfl ?_
        exact hj24 (0, 0, a2)
      · refine Ex_lconst (v := 1) dX0_hasLease_10 (by decide) ?_
        refine Ex_goto (tgt := 15) dX0_hasLease_11 (by decide) ?_
        refine Ex_lv [] (lv' := []) rfl ?_
        exact hj24 (1, 0, a2)
  · refine ExT_if (e0 := 0) ?_ ?_
    · refine ExT_catch (name := "java/lang/IndexOutOfBoundsException") [] { startPc := 0, endPc := 16, handlerPc := 19, catchType := 13 } [] rfl (fun _ hz => nomatch hz) rfl (by decide) q784 q886 ?_
      refine Ex_astore_n (lv' := [(0, .ref a0), (1, .int x1), (2, .ref a2), (3, .ref q25)]) dX0_hasLease_19 rfl (by decide) [1, 2, 3, 0] rfl ?_
      refine Ex_iconst (v := 1) dX0_hasLease_20 (by decide) ?_
      exact Ex_ireturn dX0_hasLease_21 rfl
    · exact ExT_fl
-- QuorumAlmanac.requireKey(I)V
def m_X1_requireKey (x0 : Int32) : Ms Unit :=
  bn (m_X1_isBetween x0 0 19) fun r22 =>
  bd (m_X1_requireArgument r22) fun _ =>
  rt ()
theorem hm_X1_requireKey : (yX1_requireKey.cls ≠ "java/lang/invoke/MethodHandle" ∧ yX1_requireKey.cls ≠ "java/lang/invoke/VarHandle" ∧ (parseMethodDescriptor yX1_requireKey.desc).map (fun d => d.parameters.length) = some 1) := by decide +kernel
set_option maxHeartbeats 4000000 in
set_option maxRecDepth 100000 in
theorem L_X1_requireKey {G : GT} (hG : GOK G) (x0 : Int32) : Cal G yX1_requireKey (ws_ yX1_requireKey cX1_requireKey 1 (Option.none : Option Jvm.ClassFile.FieldType)) 7 109 [.int x0] rU (m_X1_requireKey x0) := by
  refine Cal_of hG (by decide +kernel) (Nat.le_of_ble_eq_true rfl) (lv0 := [(0, .int x0)]) rfl (fun X σ0 => ?_)
  delta m_X1_requireKey
  refine Ex_iload_n dX1_requireKey_0 rfl 0 rfl ?_
  refine Ex_iconst (v := 0) dX1_requireKey_1 (by decide) ?_
  refine Ex_bipush (v := 19) dX1_requireKey_2 (by decide) ?_
  refine Ex_bnI (Inv_S (L_X1_isBetween hG x0 0 19) (lw_S q878 q879 q45 q880) hm_X1_isBetween (by decide) (by decide) dX1_requireKey_4 rfl (Nat.le_of_ble_eq_true rfl)) (fun r22 => ?_)
  refine Ex_bdU (Inv_S (L_X1_requireArgument hG r22) (lw_S q1743 q1744 q45 q1745) hm_X1_requireArgument (by decide) (by decide) dX1_requireKey_7 rfl (Nat.le_of_ble_eq_true rfl)) (fun _ hz => nomatch hz) (fun _ => ?_)
  exact Ex_vreturn dX1_requireKey_10 rfl
-- QuorumAlmanac.readByLease(II)I
def m_X1_readByLease (a0 : Nat) (x1 : Int32) (x2 : Int32) : Ms Int32 :=
  bd (ko [1] a0 (m_X1_node a0 x1)) fun r38 =>
  bd (m_X1_requireKey x2) fun _ =>
  bn (ko [2] r38 (m_X2_hasLease r38)) fun r39 =>
  bd (m_X1_requireState r39) fun _ =>
  gI [1] 3 a0 fun x40 =>
  jn (fun (v41 : Int32 × Nat) =>
      ck (v41.1 = 0 ∨ v41.1 = 1) <|
      pV [1] 3 v41.2 (.int v41.1) <|
      gR [2] 110 r38 fun x43 =>
      gR [4] 116 x43 fun x44 =>
      aI 30 x44 x2 fun x45 =>
      rt x45)
    fun j42 =>
    jn (fun (v46 : Nat) =>
        j42 (0, v46))
      fun j47 =>
      if x40 = 0 then
        j47 a0
      else
        gI [2] 13 r38 fun x48 =>
        gR [1] 107 a0 fun x49 =>
        bn (ko [22] x49 (m_J2_size x49)) fun r50 =>
        if ¬ x48 = r50 then
          j47 a0
        else
          j42 (1, a0)
theorem hm_X1_readByLease : (yX1_readByLease.cls ≠ "java/lang/invoke/MethodHandle" ∧ yX1_readByLease.cls ≠ "java/lang/invoke/VarHandle" ∧ (parseMethodDescriptor yX1_readByLease.desc).map (fun d => d.parameters.length) = some 2) := by decide +kernel
set_option maxHeartbeats 4000000 in
set_option maxRecDepth 100000 in
theorem L_X1_readByLease {G : GT} (hG : GOK G) (a0 : Nat) (x1 : Int32) (x2 : Int32) : Cal G yX1_readByLease (ws_ yX1_readByLease cX1_readByLease 4 (Option.some Jvm.ClassFile.FieldType.int)) 9 210 [.ref a0, .int x1, .int x2] rI (m_X1_readByLease a0 x1 x2) := by
  refine Cal_of hG (by decide +kernel) (Nat.le_of_ble_eq_true rfl) (lv0 := [(0, .ref a0), (1, .int x1), (2, .int x2)]) rfl (fun X σ0 => ?_)
  delta m_X1_readByLease
  refine Ex_aload_n dX1_readByLease_0 rfl 0 rfl ?_
  refine Ex_iload_n dX1_readByLease_1 rfl 1 rfl ?_
  refine Ex_bdR (Inv_V (L_X1_node hG a0 x1) (lw_V q874 q876 qs5 q45 q877) oe_1 ⟨rfl, hm_X1_node⟩ (by decide) (by decide) dX1_readByLease_2 rfl (Nat.le_of_ble_eq_true rfl)) (fun _ hz => nomatch hz) (fun r38 => ?_)
  refine Ex_astore_n (lv' := [(0, .ref a0), (1, .int x1), (2, .int x2), (3, .ref r38)]) dX1_readByLease_5 rfl (by decide) [1, 2, 3, 0] rfl ?_
  refine Ex_iload_n dX1_readByLease_6 rfl 2 rfl ?_
  refine Ex_bdU (Inv_S (L_X1_requireKey hG x2) (lw_S q1805 q1806 q45 q1807) hm_X1_requireKey (by decide) (by decide) dX1_readByLease_7 rfl (Nat.le_of_ble_eq_true rfl)) (fun _ hz => nomatch hz) (fun _ => ?_)
  refine Ex_aload_n dX1_readByLease_10 rfl 3 rfl ?_
  refine Ex_bnI (Inv_V (L_X2_hasLease hG r38) (lw_V q1797 q1666 q1667 q50 q1668) oe_2 ⟨rfl, hm_X2_hasLease⟩ (by decide) (by decide) dX1_readByLease_11 rfl (Nat.le_of_ble_eq_true rfl)) (fun r39 => ?_)
  refine Ex_bdU (Inv_S (L_X1_requireState hG r39) (lw_S q905 q906 q45 q907) hm_X1_requireState (by decide) (by decide) dX1_readByLease_14 rfl (Nat.le_of_ble_eq_true rfl)) (fun _ hz => nomatch hz) (fun _ => ?_)
  refine Ex_aload_n dX1_readByLease_17 rfl 0 rfl ?_
  refine Ex_aload_n dX1_readByLease_18 rfl 0 rfl ?_
  refine Ex_gI dX1_readByLease_19 lk_X1_56 rfl (fun x40 => ?_)
  refine Ex_jn (γ := Int32 × Nat) (pj := 44) (fun v41 => [(2, .int x2), (3, .ref r38)]) (fun v41 => [.int v41.1, .ref v41.2]) (fun v41 => ?_) (fun j42 hj42 => ?_)
  · refine Ex_ck (fun hz => ?_)
    refine Ex_pV dX1_readByLease_44 lk_X1_56 rfl rfl (zok_n hz) (zok_f hz) ?_
    refine Ex_aload_n dX1_readByLease_47 rfl 1 rfl ?_
    refine Ex_gR dX1_readByLease_48 lk_X1_292 rfl (fun x43 => ?_)
    refine Ex_gR dX1_readByLease_51 lk_X1_296 rfl (fun x44 => ?_)
    refine Ex_iload_n dX1_readByLease_54 rfl 0 rfl ?_
    refine Ex_aI_i dX1_readByLease_55 (fun x45 => ?_)
    exact Ex_ireturn dX1_readByLease_56 rfl
  · refine Ex_jn (γ := Nat) (pj := 43) (fun v46 => [(2, .int x2), (3, .ref r38)]) (fun v46 => [.ref v46]) (fun v46 => ?_) (fun j47 hj47 => ?_)
    · refine Ex_iconst (v := 0) dX1_readByLease_43 (by decide) ?_
      exact hj42 (0, v46)
    · refine Ex_if_eq (tgt := 43) dX1_readByLease_22 (by decide) ?_ ?_
      · refine Ex_lv [2, 3] (lv' := [(2, .int x2), (3, .ref r38)]) rfl ?_
        exact hj47 a0
      · refine Ex_aload_n dX1_readByLease_25 rfl 3 rfl ?_
        refine Ex_gI dX1_readByLease_26 lk_X1_137 rfl (fun x48 => ?_)
        refine Ex_aload_n dX1_readByLease_29 rfl 0 rfl ?_
        refine Ex_gR dX1_readByLease_30 lk_X1_49 rfl (fun x49 => ?_)
        refine Ex_bnI (Inv_V (L_J2_size hG x49) (lw_V q348 q112 q113 q48 q114) oe_22 ⟨rfl, hm_J2_size⟩ (by decide) (by decide) dX1_readByLease_33 rfl (Nat.le_of_ble_eq_true rfl)) (fun r50 => ?_)
        refine Ex_icmp_ne (tgt := 43) dX1_readByLease_36 (by decide) ?_ ?_
        · refine Ex_lv [2, 3] (lv' := [(2, .int x2), (3, .ref r38)]) rfl ?_
          exact hj47 a0
        · refine Ex_iconst (v := 1) dX1_readByLease_39 (by decide) ?_
          refine Ex_goto (tgt := 44) dX1_readByLease_40 (by decide) ?_
          refine Ex_lv [2, 3] (lv' := [(2, .int x2), (3, .ref r38)]) rfl ?_
          exact hj42 (1, a0)
-- QuorumAlmanacLaw.readByLease(LQuorumAlmanac;II[J)I
def m_X0_readByLease (a0 : Nat) (x1 : Int32) (x2 : Int32) (a3 : Nat) : Ms Int32 :=
  tr (ko [1] a0 (m_X1_readByLease a0 x1 x2)) (fun r22 =>
    sV 35 a3 0 (.long r22.toInt64) <|
    rt 0) fun e q23 =>
    if e = 0 then
      rt 1
    else 
      if e = 2 then
        rt 2
      else 
        if e = 1 then
          rt 3
        else fl
theorem hm_X0_readByLease : (yX0_readByLease.cls ≠ "java/lang/invoke/MethodHandle" ∧ yX0_readByLease.cls ≠ "java/lang/invoke/VarHandle" ∧ (parseMethodDescriptor yX0_readByLease.desc).map (fun d => d.parameters.length) = some 4) := by decide +kernel
set_option maxHeartbeats 4000000 in
set_option maxRecDepth 100000 in
theorem L_X0_readByLease {G : GT} (hG : GOK G) (a0 : Nat) (x1 : Int32) (x2 : Int32) (a3 : Nat) : Cal G yX0_readByLease (wsW_ yX0_readByLease cX0_readByLease 5 (Option.some Jvm.ClassFile.FieldType.int) [(0, 10, 13, 13), (0, 10, 17, 90), (0, 10, 21, 15)]) 10 233 [.ref a0, .int x1, .int x2, .ref a3] rI (m_X0_readByLease a0 x1 x2 a3) := by
  refine Cal_ofH hG (by decide +kernel) (Nat.le_of_ble_eq_true rfl) (tb := [{ startPc := 0, endPc := 10, handlerPc := 13, catchType := 13 }, { startPc := 0, endPc := 10, handlerPc := 17, catchType := 90 }, { startPc := 0, endPc := 10, handlerPc := 21, catchType := 15 }]) rfl (lv0 := [(0, .ref a0), (1, .int x1), (2, .int x2), (3, .ref a3)]) rfl (fun X σ0 => ?_)
  delta m_X0_readByLease
  refine Ex_aload_n dX0_readByLease_0 rfl 3 rfl ?_
  refine Ex_iconst (v := 0) dX0_readByLease_1 (by decide) ?_
  refine Ex_aload_n dX0_readByLease_2 rfl 0 rfl ?_
  refine Ex_iload_n dX0_readByLease_3 rfl 1 rfl ?_
  refine Ex_iload_n dX0_readByLease_4 rfl 2 rfl ?_
  refine Ex_trI (Inv_V (L_X1_readByLease hG a0 x1 x2) (lw_V q1801 q1802 q1803 q45 q1804) oe_1 ⟨rfl, hm_X1_readByLease⟩ (by decide) (by decide) dX0_readByLease_5 rfl (Nat.le_of_ble_eq_true rfl)) (fun r22 => ?_) (fun e q23 => ?_)
  · refine Ex_i2l dX0_readByLease_8 ?_
    refine Ex_last dX0_readByLease_9 ?_
    refine Ex_goto (tgt := 25) dX0_readByLease_10 (by decide) ?_
    refine Ex_iconst (v := 0) dX0_readByLease_25 (by decide) ?_
    exact Ex_ireturn dX0_readByLease_26 rfl
  · refine ExT_if (e0 := 0) ?_ ?_
    · refine ExT_catch (name := "java/lang/IndexOutOfBoundsException") [] { startPc := 0, endPc := 10, handlerPc := 13, catchType := 13 } [{ startPc := 0, endPc := 10, handlerPc := 17, catchType := 90 }, { startPc := 0, endPc := 10, handlerPc := 21, catchType := 15 }] rfl (fun _ hz => nomatch hz) rfl (by decide) q784 q886 ?_
      refine Ex_astore (lv' := [(0, .ref a0), (1, .int x1), (2, .int x2), (3, .ref a3), (4, .ref q23)]) dX0_readByLease_13 (by decide) [1, 2, 3, 4, 0] rfl ?_
      refine Ex_iconst (v := 1) dX0_readByLease_15 (by decide) ?_
      exact Ex_ireturn dX0_readByLease_16 rfl
    · refine ExT_if (e0 := 2) ?_ ?_
      · refine ExT_catch (name := "java/lang/IllegalArgumentException") [{ startPc := 0, endPc := 10, handlerPc := 13, catchType := 13 }] { startPc := 0, endPc := 10, handlerPc := 17, catchType := 90 } [{ startPc := 0, endPc := 10, handlerPc := 21, catchType := 15 }] rfl (List.forall_mem_cons.mpr ⟨Or.inr ⟨by decide, "java/lang/IndexOutOfBoundsException", q784, nc_2_0⟩, fun _ hz => nomatch hz⟩) rfl (by decide) q1738 q1619 ?_
        refine Ex_astore (lv' := [(0, .ref a0), (1, .int x1), (2, .int x2), (3, .ref a3), (4, .ref q23)]) dX0_readByLease_17 (by decide) [1, 2, 3, 4, 0] rfl ?_
        refine Ex_iconst (v := 2) dX0_readByLease_19 (by decide) ?_
        exact Ex_ireturn dX0_readByLease_20 rfl
      · refine ExT_if (e0 := 1) ?_ ?_
        · refine ExT_catch (name := "java/lang/IllegalStateException") [{ startPc := 0, endPc := 10, handlerPc := 13, catchType := 13 }, { startPc := 0, endPc := 10, handlerPc := 17, catchType := 90 }] { startPc := 0, endPc := 10, handlerPc := 21, catchType := 15 } [] rfl (List.forall_mem_cons.mpr ⟨Or.inr ⟨by decide, "java/lang/IndexOutOfBoundsException", q784, nc_1_0⟩, List.forall_mem_cons.mpr ⟨Or.inr ⟨by decide, "java/lang/IllegalArgumentException", q1738, nc_1_2⟩, fun _ hz => nomatch hz⟩⟩) rfl (by decide) q865 q910 ?_
          refine Ex_astore (lv' := [(0, .ref a0), (1, .int x1), (2, .int x2), (3, .ref a3), (4, .ref q23)]) dX0_readByLease_21 (by decide) [1, 2, 3, 4, 0] rfl ?_
          refine Ex_iconst (v := 3) dX0_readByLease_23 (by decide) ?_
          exact Ex_ireturn dX0_readByLease_24 rfl
        · exact ExT_fl
-- QuorumAlmanac$Read.<init>(IIIII)V
def m_X21_init (a0 : Nat) (x1 : Int32) (x2 : Int32) (x3 : Int32) (x4 : Int32) (x5 : Int32) : Ms Unit :=
  pV [13] 46 a0 (.int 119) <|
  pV [13] 41 a0 (.int x1) <|
  pV [13] 42 a0 (.int x2) <|
  pV [13] 43 a0 (.int x3) <|
  pV [13] 44 a0 (.int x4) <|
  pV [13] 45 a0 (.int x5) <|
  rt ()
theorem hm_X21_init : (yX21_init.cls ≠ "java/lang/invoke/MethodHandle" ∧ yX21_init.cls ≠ "java/lang/invoke/VarHandle" ∧ (parseMethodDescriptor yX21_init.desc).map (fun d => d.parameters.length) = some 5) := by decide +kernel
set_option maxHeartbeats 4000000 in
set_option maxRecDepth 100000 in
theorem L_X21_init {G : GT} (hG : GOK G) (a0 : Nat) (x1 : Int32) (x2 : Int32) (x3 : Int32) (x4 : Int32) (x5 : Int32) : Cal G yX21_init (ws_ yX21_init cX21_init 6 (Option.none : Option Jvm.ClassFile.FieldType)) 2 60 [.ref a0, .int x1, .int x2, .int x3, .int x4, .int x5] rU (m_X21_init a0 x1 x2 x3 x4 x5) := by
  refine Cal_of hG (by decide +kernel) (Nat.le_of_ble_eq_true rfl) (lv0 := [(0, .ref a0), (1, .int x1), (2, .int x2), (3, .int x3), (4, .int x4), (5, .int x5)]) rfl (fun X σ0 => ?_)
  delta m_X21_init
  refine Ex_aload_n dX21_init_0 rfl 0 rfl ?_
  refine Ex_objInit dX21_init_1 q1820 q103 q104 (by decide) (Nat.le_of_ble_eq_true rfl) ?_
  refine Ex_aload_n dX21_init_4 rfl 0 rfl ?_
  refine Ex_bipush (v := 119) dX21_init_5 (by decide) ?_
  refine Ex_pV dX21_init_7 lk_X21_7 rfl rfl rfl rfl ?_
  refine Ex_aload_n dX21_init_10 rfl 0 rfl ?_
  refine Ex_iload_n dX21_init_11 rfl 1 rfl ?_
  refine Ex_pVF dX21_init_12 lkf_X21_13 rfl rfl rfl rfl rfl rfl ?_
  refine Ex_aload_n dX21_init_15 rfl 0 rfl ?_
  refine Ex_iload_n dX21_init_16 rfl 2 rfl ?_
  refine Ex_pVF dX21_init_17 lkf_X21_17 rfl rfl rfl rfl rfl rfl ?_
  refine Ex_aload_n dX21_init_20 rfl 0 rfl ?_
  refine Ex_iload_n dX21_init_21 rfl 3 rfl ?_
  refine Ex_pVF dX21_init_22 lkf_X21_20 rfl rfl rfl rfl rfl rfl ?_
  refine Ex_aload_n dX21_init_25 rfl 0 rfl ?_
  refine Ex_iload dX21_init_26 4 rfl ?_
  refine Ex_pVF dX21_init_28 lkf_X21_23 rfl rfl rfl rfl rfl rfl ?_
  refine Ex_aload_n dX21_init_31 rfl 0 rfl ?_
  refine Ex_iload dX21_init_32 5 rfl ?_
  refine Ex_pVF dX21_init_34 lkf_X21_26 rfl rfl rfl rfl rfl rfl ?_
  exact Ex_vreturn dX21_init_37 rfl
-- QuorumAlmanac.askRead(II)I
def m_X1_askRead (a0 : Nat) (x1 : Int32) (x2 : Int32) : Ms Int32 :=
  bd (ko [1] a0 (m_X1_node a0 x1)) fun r56 =>
  bd (m_X1_requireKey x2) fun _ =>
  bd (ko [1] a0 (m_X1_leader a0 x1)) fun r57 =>
  gR [1] 106 a0 fun x58 =>
  bn (ko [22] x58 (m_J2_iterator x58)) fun r59 =>
  lp (fun j61 (v60 : Int32) =>
      bn (ko [23] r59 (m_J17_hasNext r59)) fun r62 =>
      if r62 = 0 then
        bn (ko [2] r57 (m_X2_hasCommittedOwn r57)) fun r63 =>
        jn (fun (v64 : Int32) =>
            bd (m_X1_requireState v64) fun _ =>
            gR [1] 106 a0 fun x66 =>
            nO 13 7 dfl fun a67 =>
            gI [2] 8 r57 fun x68 =>
            gR [2] 114 r57 fun x69 =>
            bn (ko [22] x69 (m_J2_size x69)) fun r70 =>
            gR [1] 107 a0 fun x71 =>
            bn (ko [22] x71 (m_J2_size x71)) fun r72 =>
            bn (m_X21_init a67 x1 x68 (r70 + 1) x2 r72) fun _ =>
            bn (ko [22] x66 (m_J2_add x66 a67)) fun r73 =>
            bn (ko [2] r57 (m_X2_beginRound r57)) fun _ =>
            gR [1] 106 a0 fun x74 =>
            bn (ko [22] x74 (m_J2_size x74)) fun r75 =>
            rt (r75 - 1))
          fun j65 =>
          jn (fun (v76 : Unit) =>
              j65 0)
            fun j77 =>
            if r63 = 0 then
              j77 ()
            else
              if 12 ≤ v60 then
                j77 ()
              else
                j65 1
      else
        bn (ko [23] r59 (m_J17_next r59)) fun r78 =>
        ko [13] r78 <|
        gI [13] 46 r78 fun x79 =>
        jn (fun (v80 : Int32 × Int32) =>
            j61 (v80.2 + v80.1))
          fun j81 =>
          if ¬ x79 = 119 then
            j81 (0, v60)
          else
            j81 (1, v60))
    0
theorem hm_X1_askRead : (yX1_askRead.cls ≠ "java/lang/invoke/MethodHandle" ∧ yX1_askRead.cls ≠ "java/lang/invoke/VarHandle" ∧ (parseMethodDescriptor yX1_askRead.desc).map (fun d => d.parameters.length) = some 2) := by decide +kernel
set_option maxHeartbeats 4000000 in
set_option maxRecDepth 100000 in
theorem L_X1_askRead {G : GT} (hG : GOK G) (a0 : Nat) (x1 : Int32) (x2 : Int32) : Cal G yX1_askRead (ws_ yX1_askRead cX1_askRead 7 (Option.some Jvm.ClassFile.FieldType.int)) 11 258 [.ref a0, .int x1, .int x2] rI (m_X1_askRead a0 x1 x2) := by
  refine Cal_of hG (by decide +kernel) (Nat.le_of_ble_eq_true rfl) (lv0 := [(0, .ref a0), (1, .int x1), (2, .int x2)]) rfl (fun X σ0 => ?_)
  delta m_X1_askRead
  refine Ex_aload_n dX1_askRead_0 rfl 0 rfl ?_
  refine Ex_iload_n dX1_askRead_1 rfl 1 rfl ?_
  refine Ex_bdR (Inv_V (L_X1_node hG a0 x1) (lw_V q874 q876 qs5 q45 q877) oe_1 ⟨rfl, hm_X1_node⟩ (by decide) (by decide) dX1_askRead_2 rfl (Nat.le_of_ble_eq_true rfl)) (fun _ hz => nomatch hz) (fun r56 => ?_)
  refine Ex_pop rfl dX1_askRead_5 ?_
  refine Ex_iload_n dX1_askRead_6 rfl 2 rfl ?_
  refine Ex_bdU (Inv_S (L_X1_requireKey hG x2) (lw_S q1805 q1806 q45 q1807) hm_X1_requireKey (by decide) (by decide) dX1_askRead_7 rfl (Nat.le_of_ble_eq_true rfl)) (fun _ hz => nomatch hz) (fun _ => ?_)
  refine Ex_aload_n dX1_askRead_10 rfl 0 rfl ?_
  refine Ex_iload_n dX1_askRead_11 rfl 1 rfl ?_
  refine Ex_bdR (Inv_V (L_X1_leader hG a0 x1) (lw_V q1748 q1750 qs29 q45 q1751) oe_1 ⟨rfl, hm_X1_leader⟩ (by decide) (by decide) dX1_askRead_12 rfl (Nat.le_of_ble_eq_true rfl)) (fun _ hz => nomatch hz) (fun r57 => ?_)
  refine Ex_astore_n (lv' := [(0, .ref a0), (1, .int x1), (2, .int x2), (3, .ref r57)]) dX1_askRead_15 rfl (by decide) [1, 2, 3, 0] rfl ?_
  refine Ex_iconst (v := 0) dX1_askRead_16 (by decide) ?_
  refine Ex_istore (lv' := [(0, .ref a0), (1, .int x1), (2, .int x2), (3, .ref r57), (4, .int 0)]) dX1_askRead_17 (by decide) [1, 2, 3, 4, 0] rfl ?_
  refine Ex_aload_n dX1_askRead_19 rfl 0 rfl ?_
  refine Ex_gR dX1_askRead_20 lk_X1_46 rfl (fun x58 => ?_)
  refine Ex_bnR (Inv_V (L_J2_iterator hG x58) (lw_V q1506 q1149 q1150 q48 q1151) oe_22 ⟨rfl, hm_J2_iterator⟩ (by decide) (by decide) dX1_askRead_23 rfl (Nat.le_of_ble_eq_true rfl)) (fun r59 => ?_)
  refine Ex_astore (lv' := [(0, .ref a0), (1, .int x1), (2, .int x2), (3, .ref r57), (4, .int 0), (5, .ref r59)]) dX1_askRead_26 (by decide) [1, 2, 3, 4, 5, 0] rfl ?_
  refine Ex_lp (γ := Int32) (pj := 28) (fun v60 => [(0, .ref a0), (1, .int x1), (2, .int x2), (3, .ref r57), (4, .int v60), (5, .ref r59)]) (fun v60 => []) (fun j61 hj61 v60 => ?_) 0 rfl rfl
  refine Ex_aload dX1_askRead_28 5 rfl ?_
  refine Ex_bnI (Inv_F (L_J17_hasNext hG r59) (lw_F q1508 q1176 q1178 q77 q1180) q1174 q1173 q1179 q1177 q1175 oe_23 hx_Iterator_hasNext (by decide) (by decide) dX1_askRead_30 rfl (Nat.le_of_ble_eq_true rfl)) (fun r62 => ?_)
  refine Ex_if_eq (tgt := 73) dX1_askRead_35 (by decide) ?_ ?_
  · refine Ex_aload_n dX1_askRead_73 rfl 3 rfl ?_
    refine Ex_bnI (Inv_V (L_X2_hasCommittedOwn hG r57) (lw_V q1774 q1670 q1671 q50 q1672) oe_2 ⟨rfl, hm_X2_hasCommittedOwn⟩ (by decide) (by decide) dX1_askRead_74 rfl (Nat.le_of_ble_eq_true rfl)) (fun r63 => ?_)
    refine Ex_jn (γ := Int32) (pj := 92) (fun v64 => [(0, .ref a0), (1, .int x1), (2, .int x2), (3, .ref r57)]) (fun v64 => [.int v64]) (fun v64 => ?_) (fun j65 hj65 => ?_)
    · refine Ex_bdU (Inv_S (L_X1_requireState hG v64) (lw_S q905 q906 q45 q907) hm_X1_requireState (by decide) (by decide) dX1_askRead_92 rfl (Nat.le_of_ble_eq_true rfl)) (fun _ hz => nomatch hz) (fun _ => ?_)
      refine Ex_aload_n dX1_askRead_95 rfl 0 rfl ?_
      refine Ex_gR dX1_askRead_96 lk_X1_46 rfl (fun x66 => ?_)
      refine Ex_nO (ci := 12) (q := qcl 12) dX1_askRead_99 rfl q1815 q1816 q88 (fun a67 => ?_)
      refine Ex_dup rfl dX1_askRead_102 ?_
      refine Ex_iload_n dX1_askRead_103 rfl 1 rfl ?_
      refine Ex_aload_n dX1_askRead_104 rfl 3 rfl ?_
      refine Ex_gI dX1_askRead_105 lk_X1_253 rfl (fun x68 => ?_)
      refine Ex_aload_n dX1_askRead_108 rfl 3 rfl ?_
      refine Ex_gR dX1_askRead_109 lk_X1_307 rfl (fun x69 => ?_)
      refine Ex_bnI (Inv_V (L_J2_size hG x69) (lw_V q348 q112 q113 q48 q114) oe_22 ⟨rfl, hm_J2_size⟩ (by decide) (by decide) dX1_askRead_112 rfl (Nat.le_of_ble_eq_true rfl)) (fun r70 => ?_)
      refine Ex_iconst (v := 1) dX1_askRead_115 (by decide) ?_
      refine Ex_iadd dX1_askRead_116 ?_
      refine Ex_iload_n dX1_askRead_117 rfl 2 rfl ?_
      refine Ex_aload_n dX1_askRead_118 rfl 0 rfl ?_
      refine Ex_gR dX1_askRead_119 lk_X1_49 rfl (fun x71 => ?_)
      refine Ex_bnI (Inv_V (L_J2_size hG x71) (lw_V q348 q112 q113 q48 q114) oe_22 ⟨rfl, hm_J2_size⟩ (by decide) (by decide) dX1_askRead_122 rfl (Nat.le_of_ble_eq_true rfl)) (fun r72 => ?_)
      refine Ex_bnU (Inv_I (L_X21_init hG a67 x1 x68 (r70 + 1) x2 r72) q88 q1817 q1818 q1819 rfl hm_X21_init (by decide) (by decide) dX1_askRead_125 rfl (Nat.le_of_ble_eq_true rfl)) (fun _ => ?_)
      refine Ex_bnI (Inv_V (L_J2_add hG x66 a67) (lw_V q1084 q935 q936 q48 q937) oe_22 ⟨rfl, hm_J2_add⟩ (by decide) (by decide) dX1_askRead_128 rfl (Nat.le_of_ble_eq_true rfl)) (fun r73 => ?_)
      refine Ex_pop rfl dX1_askRead_131 ?_
      refine Ex_aload_n dX1_askRead_132 rfl 3 rfl ?_
      refine Ex_bnU (Inv_V (L_X2_beginRound hG r57) (lw_V q1757 q930 q931 q50 q932) oe_2 ⟨rfl, hm_X2_beginRound⟩ (by decide) (by decide) dX1_askRead_133 rfl (Nat.le_of_ble_eq_true rfl)) (fun _ => ?_)
      refine Ex_aload_n dX1_askRead_136 rfl 0 rfl ?_
      refine Ex_gR dX1_askRead_137 lk_X1_46 rfl (fun x74 => ?_)
      refine Ex_bnI (Inv_V (L_J2_size hG x74) (lw_V q348 q112 q113 q48 q114) oe_22 ⟨rfl, hm_J2_size⟩ (by decide) (by decide) dX1_askRead_140 rfl (Nat.le_of_ble_eq_true rfl)) (fun r75 => ?_)
      refine Ex_iconst (v := 1) dX1_askRead_143 (by decide) ?_
      refine Ex_isub dX1_askRead_144 ?_
      exact Ex_ireturn dX1_askRead_145 rfl
    · refine Ex_jn (γ := Unit) (pj := 91) (fun v76 => [(0, .ref a0), (1, .int x1), (2, .int x2), (3, .ref r57)]) (fun v76 => []) (fun v76 => ?_) (fun j77 hj77 => ?_)
      · refine Ex_iconst (v := 0) dX1_askRead_91 (by decide) ?_
        exact hj65 0
      · refine Ex_if_eq (tgt := 91) dX1_askRead_77 (by decide) ?_ ?_
        · refine Ex_lv [0, 1, 2, 3] (lv' := [(0, .ref a0), (1, .int x1), (2, .int x2), (3, .ref r57)]) rfl ?_
          exact hj77 ()
        · refine Ex_iload dX1_askRead_80 4 rfl ?_
          refine Ex_bipush (v := 12) dX1_askRead_82 (by decide) ?_
          refine Ex_icmp_ge (tgt := 91) dX1_askRead_84 (by decide) ?_ ?_
          · refine Ex_lv [0, 1, 2, 3] (lv' := [(0, .ref a0), (1, .int x1), (2, .int x2), (3, .ref r57)]) rfl ?_
            exact hj77 ()
          · refine Ex_iconst (v := 1) dX1_askRead_87 (by decide) ?_
            refine Ex_goto (tgt := 92) dX1_askRead_88 (by decide) ?_
            refine Ex_lv [0, 1, 2, 3] (lv' := [(0, .ref a0), (1, .int x1), (2, .int x2), (3, .ref r57)]) rfl ?_
            exact hj65 1
  · refine Ex_aload dX1_askRead_38 5 rfl ?_
    refine Ex_bnR (Inv_F (L_J17_next hG r59) (lw_F q1510 q1185 q1187 q77 q1189) q1184 q1183 q1188 q1186 q1175 oe_23 hx_Iterator_next (by decide) (by decide) dX1_askRead_40 rfl (Nat.le_of_ble_eq_true rfl)) (fun r78 => ?_)
    refine Ex_ko dX1_askRead_45 q1815 oc_QuorumAlmanac_Read_13 ?_
    refine Ex_astore (lv' := [(0, .ref a0), (1, .int x1), (2, .int x2), (3, .ref r57), (4, .int v60), (5, .ref r59), (6, .ref r78)]) dX1_askRead_48 (by decide) [1, 2, 3, 4, 5, 6, 0] rfl ?_
    refine Ex_iload dX1_askRead_50 4 rfl ?_
    refine Ex_aload dX1_askRead_52 6 rfl ?_
    refine Ex_gI dX1_askRead_54 lk_X1_304 rfl (fun x79 => ?_)
    refine Ex_bipush (v := 119) dX1_askRead_57 (by decide) ?_
    refine Ex_jn (γ := Int32 × Int32) (pj := 67) (fun v80 => [(0, .ref a0), (1, .int x1), (2, .int x2), (3, .ref r57), (5, .ref r59)]) (fun v80 => [.int v80.1, .int v80.2]) (fun v80 => ?_) (fun j81 hj81 => ?_)
    · refine Ex_iadd dX1_askRead_67 ?_
      refine Ex_istore (lv' := [(0, .ref a0), (1, .int x1), (2, .int x2), (3, .ref r57), (4, .int (v80.2 + v80.1)), (5, .ref r59)]) dX1_askRead_68 (by decide) [1, 2, 3, 4, 0, 5] rfl ?_
      refine Ex_goto (tgt := 28) dX1_askRead_70 (by decide) ?_
      exact hj61 (v80.2 + v80.1)
    · refine Ex_icmp_ne (tgt := 66) dX1_askRead_59 (by decide) ?_ ?_
      · refine Ex_iconst (v := 0) dX1_askRead_66 (by decide) ?_
        refine Ex_lv [0, 1, 2, 3, 5] (lv' := [(0, .ref a0), (1, .int x1), (2, .int x2), (3, .ref r57), (5, .ref r59)]) rfl ?_
        exact hj81 (0, v60)
      · refine Ex_iconst (v := 1) dX1_askRead_62 (by decide) ?_
        refine Ex_goto (tgt := 67) dX1_askRead_63 (by decide) ?_
        refine Ex_lv [0, 1, 2, 3, 5] (lv' := [(0, .ref a0), (1, .int x1), (2, .int x2), (3, .ref r57), (5, .ref r59)]) rfl ?_
        exact hj81 (1, v60)
-- QuorumAlmanacLaw.askRead(LQuorumAlmanac;II[J)I
def m_X0_askRead (a0 : Nat) (x1 : Int32) (x2 : Int32) (a3 : Nat) : Ms Int32 :=
  tr (ko [1] a0 (m_X1_askRead a0 x1 x2)) (fun r22 =>
    sV 35 a3 0 (.long r22.toInt64) <|
    rt 0) fun e q23 =>
    if e = 0 then
      rt 1
    else 
      if e = 2 then
        rt 2
      else 
        if e = 1 then
          rt 3
        else fl
theorem hm_X0_askRead : (yX0_askRead.cls ≠ "java/lang/invoke/MethodHandle" ∧ yX0_askRead.cls ≠ "java/lang/invoke/VarHandle" ∧ (parseMethodDescriptor yX0_askRead.desc).map (fun d => d.parameters.length) = some 4) := by decide +kernel
set_option maxHeartbeats 4000000 in
set_option maxRecDepth 100000 in
theorem L_X0_askRead {G : GT} (hG : GOK G) (a0 : Nat) (x1 : Int32) (x2 : Int32) (a3 : Nat) : Cal G yX0_askRead (wsW_ yX0_askRead cX0_askRead 5 (Option.some Jvm.ClassFile.FieldType.int) [(0, 10, 13, 13), (0, 10, 17, 90), (0, 10, 21, 15)]) 12 284 [.ref a0, .int x1, .int x2, .ref a3] rI (m_X0_askRead a0 x1 x2 a3) := by
  refine Cal_ofH hG (by decide +kernel) (Nat.le_of_ble_eq_true rfl) (tb := [{ startPc := 0, endPc := 10, handlerPc := 13, catchType := 13 }, { startPc := 0, endPc := 10, handlerPc := 17, catchType := 90 }, { startPc := 0, endPc := 10, handlerPc := 21, catchType := 15 }]) rfl (lv0 := [(0, .ref a0), (1, .int x1), (2, .int x2), (3, .ref a3)]) rfl (fun X σ0 => ?_)
  delta m_X0_askRead
  refine Ex_aload_n dX0_askRead_0 rfl 3 rfl ?_
  refine Ex_iconst (v := 0) dX0_askRead_1 (by decide) ?_
  refine Ex_aload_n dX0_askRead_2 rfl 0 rfl ?_
  refine Ex_iload_n dX0_askRead_3 rfl 1 rfl ?_
  refine Ex_iload_n dX0_askRead_4 rfl 2 rfl ?_
  refine Ex_trI (Inv_V (L_X1_askRead hG a0 x1 x2) (lw_V q1811 q1812 q1813 q45 q1814) oe_1 ⟨rfl, hm_X1_askRead⟩ (by decide) (by decide) dX0_askRead_5 rfl (Nat.le_of_ble_eq_true rfl)) (fun r22 => ?_) (fun e q23 => ?_)
  · refine Ex_i2l dX0_askRead_8 ?_
    refine Ex_last dX0_askRead_9 ?_
    refine Ex_goto (tgt := 25) dX0_askRead_10 (by decide) ?_
    refine Ex_iconst (v := 0) dX0_askRead_25 (by decide) ?_
    exact Ex_ireturn dX0_askRead_26 rfl
  · refine ExT_if (e0 := 0) ?_ ?_
    · refine ExT_catch (name := "java/lang/IndexOutOfBoundsException") [] { startPc := 0, endPc := 10, handlerPc := 13, catchType := 13 } [{ startPc := 0, endPc := 10, handlerPc := 17, catchType := 90 }, { startPc := 0, endPc := 10, handlerPc := 21, catchType := 15 }] rfl (fun _ hz => nomatch hz) rfl (by decide) q784 q886 ?_
      refine Ex_astore (lv' := [(0, .ref a0), (1, .int x1), (2, .int x2), (3, .ref a3), (4, .ref q23)]) dX0_askRead_13 (by decide) [1, 2, 3, 4, 0] rfl ?_
      refine Ex_iconst (v := 1) dX0_askRead_15 (by decide) ?_
      exact Ex_ireturn dX0_askRead_16 rfl
    · refine ExT_if (e0 := 2) ?_ ?_
      · refine ExT_catch (name := "java/lang/IllegalArgumentException") [{ startPc := 0, endPc := 10, handlerPc := 13, catchType := 13 }] { startPc := 0, endPc := 10, handlerPc := 17, catchType := 90 } [{ startPc := 0, endPc := 10, handlerPc := 21, catchType := 15 }] rfl (List.forall_mem_cons.mpr ⟨Or.inr ⟨by decide, "java/lang/IndexOutOfBoundsException", q784, nc_2_0⟩, fun _ hz => nomatch hz⟩) rfl (by decide) q1738 q1619 ?_
        refine Ex_astore (lv' := [(0, .ref a0), (1, .int x1), (2, .int x2), (3, .ref a3), (4, .ref q23)]) dX0_askRead_17 (by decide) [1, 2, 3, 4, 0] rfl ?_
        refine Ex_iconst (v := 2) dX0_askRead_19 (by decide) ?_
        exact Ex_ireturn dX0_askRead_20 rfl
      · refine ExT_if (e0 := 1) ?_ ?_
        · refine ExT_catch (name := "java/lang/IllegalStateException") [{ startPc := 0, endPc := 10, handlerPc := 13, catchType := 13 }, { startPc := 0, endPc := 10, handlerPc := 17, catchType := 90 }] { startPc := 0, endPc := 10, handlerPc := 21, catchType := 15 } [] rfl (List.forall_mem_cons.mpr ⟨Or.inr ⟨by decide, "java/lang/IndexOutOfBoundsException", q784, nc_1_0⟩, List.forall_mem_cons.mpr ⟨Or.inr ⟨by decide, "java/lang/IllegalArgumentException", q1738, nc_1_2⟩, fun _ hz => nomatch hz⟩⟩) rfl (by decide) q865 q910 ?_
          refine Ex_astore (lv' := [(0, .ref a0), (1, .int x1), (2, .int x2), (3, .ref a3), (4, .ref q23)]) dX0_askRead_21 (by decide) [1, 2, 3, 4, 0] rfl ?_
          refine Ex_iconst (v := 3) dX0_askRead_23 (by decide) ?_
          exact Ex_ireturn dX0_askRead_24 rfl
        · exact ExT_fl
-- QuorumAlmanac.read(I)LQuorumAlmanac$Read;
def m_X1_read (a0 : Nat) (x1 : Int32) : Ms Nat :=
  gR [1] 106 a0 fun x30 =>
  bn (ko [22] x30 (m_J2_size x30)) fun r31 =>
  bn (m_X1_isBetween x1 0 (r31 - 1)) fun r32 =>
  bd (m_X1_requireElement r32) fun _ =>
  gR [1] 106 a0 fun x33 =>
  bn (ko [22] x33 (m_J2_get x33 x1)) fun r34 =>
  ko [13] r34 <|
  rt r34
theorem hm_X1_read : (yX1_read.cls ≠ "java/lang/invoke/MethodHandle" ∧ yX1_read.cls ≠ "java/lang/invoke/VarHandle" ∧ (parseMethodDescriptor yX1_read.desc).map (fun d => d.parameters.length) = some 1) := by decide +kernel
set_option maxHeartbeats 4000000 in
set_option maxRecDepth 100000 in
theorem L_X1_read {G : GT} (hG : GOK G) (a0 : Nat) (x1 : Int32) : Cal G yX1_read (ws_ yX1_read cX1_read 2 (Option.some (Jvm.ClassFile.FieldType.object "QuorumAlmanac$Read"))) 7 124 [.ref a0, .int x1] rR (m_X1_read a0 x1) := by
  refine Cal_of hG (by decide +kernel) (Nat.le_of_ble_eq_true rfl) (lv0 := [(0, .ref a0), (1, .int x1)]) rfl (fun X σ0 => ?_)
  delta m_X1_read
  refine Ex_iload_n dX1_read_0 rfl 1 rfl ?_
  refine Ex_iconst (v := 0) dX1_read_1 (by decide) ?_
  refine Ex_aload_n dX1_read_2 rfl 0 rfl ?_
  refine Ex_gR dX1_read_3 lk_X1_46 rfl (fun x30 => ?_)
  refine Ex_bnI (Inv_V (L_J2_size hG x30) (lw_V q348 q112 q113 q48 q114) oe_22 ⟨rfl, hm_J2_size⟩ (by decide) (by decide) dX1_read_6 rfl (Nat.le_of_ble_eq_true rfl)) (fun r31 => ?_)
  refine Ex_iconst (v := 1) dX1_read_9 (by decide) ?_
  refine Ex_isub dX1_read_10 ?_
  refine Ex_bnI (Inv_S (L_X1_isBetween hG x1 0 (r31 - 1)) (lw_S q878 q879 q45 q880) hm_X1_isBetween (by decide) (by decide) dX1_read_11 rfl (Nat.le_of_ble_eq_true rfl)) (fun r32 => ?_)
  refine Ex_bdU (Inv_S (L_X1_requireElement hG r32) (lw_S q1415 q1416 q45 q1417) hm_X1_requireElement (by decide) (by decide) dX1_read_14 rfl (Nat.le_of_ble_eq_true rfl)) (fun _ hz => nomatch hz) (fun _ => ?_)
  refine Ex_aload_n dX1_read_17 rfl 0 rfl ?_
  refine Ex_gR dX1_read_18 lk_X1_46 rfl (fun x33 => ?_)
  refine Ex_iload_n dX1_read_21 rfl 1 rfl ?_
  refine Ex_bnR (Inv_V (L_J2_get hG x33 x1) (lw_V q777 q415 q416 q48 q417) oe_22 ⟨rfl, hm_J2_get⟩ (by decide) (by decide) dX1_read_22 rfl (Nat.le_of_ble_eq_true rfl)) (fun r34 => ?_)
  refine Ex_ko dX1_read_25 q1815 oc_QuorumAlmanac_Read_13 ?_
  exact Ex_areturn dX1_read_28 rfl (Or.inl ⟨_, rfl⟩)
-- QuorumAlmanac.readState(I)C
def m_X1_readState (a0 : Nat) (x1 : Int32) : Ms Int32 :=
  bd (ko [1] a0 (m_X1_read a0 x1)) fun r24 =>
  gI [13] 46 r24 fun x25 =>
  ck (0 ≤ Int32.toInt x25 ∧ Int32.toInt x25 < 65536) <|
  rt x25
theorem hm_X1_readState : (yX1_readState.cls ≠ "java/lang/invoke/MethodHandle" ∧ yX1_readState.cls ≠ "java/lang/invoke/VarHandle" ∧ (parseMethodDescriptor yX1_readState.desc).map (fun d => d.parameters.length) = some 1) := by decide +kernel
set_option maxHeartbeats 4000000 in
set_option maxRecDepth 100000 in
theorem L_X1_readState {G : GT} (hG : GOK G) (a0 : Nat) (x1 : Int32) : Cal G yX1_readState (ws_ yX1_readState cX1_readState 2 (Option.some Jvm.ClassFile.FieldType.char)) 8 145 [.ref a0, .int x1] rI (m_X1_readState a0 x1) := by
  refine Cal_of hG (by decide +kernel) (Nat.le_of_ble_eq_true rfl) (lv0 := [(0, .ref a0), (1, .int x1)]) rfl (fun X σ0 => ?_)
  delta m_X1_readState
  refine Ex_aload_n dX1_readState_0 rfl 0 rfl ?_
  refine Ex_iload_n dX1_readState_1 rfl 1 rfl ?_
  refine Ex_bdR (Inv_V (L_X1_read hG a0 x1) (lw_V q1857 q1859 qs31 q45 q1860) oe_1 ⟨rfl, hm_X1_read⟩ (by decide) (by decide) dX1_readState_2 rfl (Nat.le_of_ble_eq_true rfl)) (fun _ hz => nomatch hz) (fun r24 => ?_)
  refine Ex_gI dX1_readState_5 lk_X1_304 rfl (fun x25 => ?_)
  refine Ex_ck (fun hz => ?_)
  exact Ex_zreturn dX1_readState_8 rfl (cok_n hz)
-- QuorumAlmanacLaw.readState(LQuorumAlmanac;I[J)I
def m_X0_readState (a0 : Nat) (x1 : Int32) (a2 : Nat) : Ms Int32 :=
  tr (ko [1] a0 (m_X1_readState a0 x1)) (fun r22 =>
    sV 35 a2 0 (.long r22.toInt64) <|
    rt 0) fun e q23 =>
    if e = 3 then
      rt 1
    else fl
theorem hm_X0_readState : (yX0_readState.cls ≠ "java/lang/invoke/MethodHandle" ∧ yX0_readState.cls ≠ "java/lang/invoke/VarHandle" ∧ (parseMethodDescriptor yX0_readState.desc).map (fun d => d.parameters.length) = some 3) := by decide +kernel
set_option maxHeartbeats 4000000 in
set_option maxRecDepth 100000 in
theorem L_X0_readState {G : GT} (hG : GOK G) (a0 : Nat) (x1 : Int32) (a2 : Nat) : Cal G yX0_readState (wsW_ yX0_readState cX0_readState 4 (Option.some Jvm.ClassFile.FieldType.int) [(0, 9, 12, 39)]) 9 166 [.ref a0, .int x1, .ref a2] rI (m_X0_readState a0 x1 a2) := by
  refine Cal_ofH hG (by decide +kernel) (Nat.le_of_ble_eq_true rfl) (tb := [{ startPc := 0, endPc := 9, handlerPc := 12, catchType := 39 }]) rfl (lv0 := [(0, .ref a0), (1, .int x1), (2, .ref a2)]) rfl (fun X σ0 => ?_)
  delta m_X0_readState
  refine Ex_aload_n dX0_readState_0 rfl 2 rfl ?_
  refine Ex_iconst (v := 0) dX0_readState_1 (by decide) ?_
  refine Ex_aload_n dX0_readState_2 rfl 0 rfl ?_
  refine Ex_iload_n dX0_readState_3 rfl 1 rfl ?_
  refine Ex_trI (Inv_V (L_X1_readState hG a0 x1) (lw_V q1853 q1854 q1855 q45 q1856) oe_1 ⟨rfl, hm_X1_readState⟩ (by decide) (by decide) dX0_readState_4 rfl (Nat.le_of_ble_eq_true rfl)) (fun r22 => ?_) (fun e q23 => ?_)
  · refine Ex_i2l dX0_readState_7 ?_
    refine Ex_last dX0_readState_8 ?_
    refine Ex_goto (tgt := 15) dX0_readState_9 (by decide) ?_
    refine Ex_iconst (v := 0) dX0_readState_15 (by decide) ?_
    exact Ex_ireturn dX0_readState_16 rfl
  · refine ExT_if (e0 := 3) ?_ ?_
    · refine ExT_catch (name := "java/util/NoSuchElementException") [] { startPc := 0, endPc := 9, handlerPc := 12, catchType := 39 } [] rfl (fun _ hz => nomatch hz) rfl (by decide) q1410 q1196 ?_
      refine Ex_astore_n (lv' := [(0, .ref a0), (1, .int x1), (2, .ref a2), (3, .ref q23)]) dX0_readState_12 rfl (by decide) [1, 2, 3, 0] rfl ?_
      refine Ex_iconst (v := 1) dX0_readState_13 (by decide) ?_
      exact Ex_ireturn dX0_readState_14 rfl
    · exact ExT_fl
-- QuorumAlmanac.readValue(I)I
def m_X1_readValue (a0 : Nat) (x1 : Int32) : Ms Int32 :=
  bd (ko [1] a0 (m_X1_read a0 x1)) fun r26 =>
  gI [13] 46 r26 fun x27 =>
  jn (fun (v28 : Int32) =>
      bd (m_X1_requireElement v28) fun _ =>
      gI [13] 47 r26 fun x30 =>
      rt x30)
    fun j29 =>
    if ¬ x27 = 114 then
      j29 0
    else
      j29 1
theorem hm_X1_readValue : (yX1_readValue.cls ≠ "java/lang/invoke/MethodHandle" ∧ yX1_readValue.cls ≠ "java/lang/invoke/VarHandle" ∧ (parseMethodDescriptor yX1_readValue.desc).map (fun d => d.parameters.length) = some 1) := by decide +kernel
set_option maxHeartbeats 4000000 in
set_option maxRecDepth 100000 in
theorem L_X1_readValue {G : GT} (hG : GOK G) (a0 : Nat) (x1 : Int32) : Cal G yX1_readValue (ws_ yX1_readValue cX1_readValue 3 (Option.some Jvm.ClassFile.FieldType.int)) 8 145 [.ref a0, .int x1] rI (m_X1_readValue a0 x1) := by
  refine Cal_of hG (by decide +kernel) (Nat.le_of_ble_eq_true rfl) (lv0 := [(0, .ref a0), (1, .int x1)]) rfl (fun X σ0 => ?_)
  delta m_X1_readValue
  refine Ex_aload_n dX1_readValue_0 rfl 0 rfl ?_
  refine Ex_iload_n dX1_readValue_1 rfl 1 rfl ?_
  refine Ex_bdR (Inv_V (L_X1_read hG a0 x1) (lw_V q1857 q1859 qs31 q45 q1860) oe_1 ⟨rfl, hm_X1_read⟩ (by decide) (by decide) dX1_readValue_2 rfl (Nat.le_of_ble_eq_true rfl)) (fun _ hz => nomatch hz) (fun r26 => ?_)
  refine Ex_astore_n (lv' := [(0, .ref a0), (1, .int x1), (2, .ref r26)]) dX1_readValue_5 rfl (by decide) [1, 2, 0] rfl ?_
  refine Ex_aload_n dX1_readValue_6 rfl 2 rfl ?_
  refine Ex_gI dX1_readValue_7 lk_X1_304 rfl (fun x27 => ?_)
  refine Ex_bipush (v := 114) dX1_readValue_10 (by decide) ?_
  refine Ex_jn (γ := Int32) (pj := 20) (fun v28 => [(2, .ref r26)]) (fun v28 => [.int v28]) (fun v28 => ?_) (fun j29 hj29 => ?_)
  · refine Ex_bdU (Inv_S (L_X1_requireElement hG v28) (lw_S q1415 q1416 q45 q1417) hm_X1_requireElement (by decide) (by decide) dX1_readValue_20 rfl (Nat.le_of_ble_eq_true rfl)) (fun _ hz => nomatch hz) (fun _ => ?_)
    refine Ex_aload_n dX1_readValue_23 rfl 0 rfl ?_
    refine Ex_gI dX1_readValue_24 lk_X1_317 rfl (fun x30 => ?_)
    exact Ex_ireturn dX1_readValue_27 rfl
  · refine Ex_icmp_ne (tgt := 19) dX1_readValue_12 (by decide) ?_ ?_
    · refine Ex_iconst (v := 0) dX1_readValue_19 (by decide) ?_
      refine Ex_lv [2] (lv' := [(2, .ref r26)]) rfl ?_
      exact hj29 0
    · refine Ex_iconst (v := 1) dX1_readValue_15 (by decide) ?_
      refine Ex_goto (tgt := 20) dX1_readValue_16 (by decide) ?_
      refine Ex_lv [2] (lv' := [(2, .ref r26)]) rfl ?_
      exact hj29 1
-- QuorumAlmanacLaw.readValue(LQuorumAlmanac;I[J)I
def m_X0_readValue (a0 : Nat) (x1 : Int32) (a2 : Nat) : Ms Int32 :=
  tr (ko [1] a0 (m_X1_readValue a0 x1)) (fun r22 =>
    sV 35 a2 0 (.long r22.toInt64) <|
    rt 0) fun e q23 =>
    if e = 3 then
      rt 1
    else fl
theorem hm_X0_readValue : (yX0_readValue.cls ≠ "java/lang/invoke/MethodHandle" ∧ yX0_readValue.cls ≠ "java/lang/invoke/VarHandle" ∧ (parseMethodDescriptor yX0_readValue.desc).map (fun d => d.parameters.length) = some 3) := by decide +kernel
set_option maxHeartbeats 4000000 in
set_option maxRecDepth 100000 in
theorem L_X0_readValue {G : GT} (hG : GOK G) (a0 : Nat) (x1 : Int32) (a2 : Nat) : Cal G yX0_readValue (wsW_ yX0_readValue cX0_readValue 4 (Option.some Jvm.ClassFile.FieldType.int) [(0, 9, 12, 39)]) 9 167 [.ref a0, .int x1, .ref a2] rI (m_X0_readValue a0 x1 a2) := by
  refine Cal_ofH hG (by decide +kernel) (Nat.le_of_ble_eq_true rfl) (tb := [{ startPc := 0, endPc := 9, handlerPc := 12, catchType := 39 }]) rfl (lv0 := [(0, .ref a0), (1, .int x1), (2, .ref a2)]) rfl (fun X σ0 => ?_)
  delta m_X0_readValue
  refine Ex_aload_n dX0_readValue_0 rfl 2 rfl ?_
  refine Ex_iconst (v := 0) dX0_readValue_1 (by decide) ?_
  refine Ex_aload_n dX0_readValue_2 rfl 0 rfl ?_
  refine Ex_iload_n dX0_readValue_3 rfl 1 rfl ?_
  refine Ex_trI (Inv_V (L_X1_readValue hG a0 x1) (lw_V q1864 q1865 q1866 q45 q1867) oe_1 ⟨rfl, hm_X1_readValue⟩ (by decide) (by decide) dX0_readValue_4 rfl (Nat.le_of_ble_eq_true rfl)) (fun r22 => ?_) (fun e q23 => ?_)
  · refine Ex_i2l dX0_readValue_7 ?_
    refine Ex_last dX0_readValue_8 ?_
    refine Ex_goto (tgt := 15) dX0_readValue_9 (by decide) ?_
    refine Ex_iconst (v := 0) dX0_readValue_15 (by decide) ?_
    exact Ex_ireturn dX0_readValue_16 rfl
  · refine ExT_if (e0 := 3) ?_ ?_
    · refine ExT_catch (name := "java/util/NoSuchElementException") [] { startPc := 0, endPc := 9, handlerPc := 12, catchType := 39 } [] rfl (fun _ hz => nomatch hz) rfl (by decide) q1410 q1196 ?_
      refine Ex_astore_n (lv' := [(0, .ref a0), (1, .int x1), (2, .ref a2), (3, .ref q23)]) dX0_readValue_12 rfl (by decide) [1, 2, 3, 0] rfl ?_
      refine Ex_iconst (v := 1) dX0_readValue_13 (by decide) ?_
      exact Ex_ireturn dX0_readValue_14 rfl
    · exact ExT_fl
-- QuorumAlmanac.readable(II)LQuorumAlmanac$Node;
def m_X1_readable (a0 : Nat) (x1 : Int32) (x2 : Int32) : Ms Nat :=
  bd (ko [1] a0 (m_X1_node a0 x1)) fun r24 =>
  bd (m_X1_requireKey x2) fun _ =>
  gI [2] 5 r24 fun x25 =>
  bd (m_X1_requireState x25) fun _ =>
  rt r24
theorem hm_X1_readable : (yX1_readable.cls ≠ "java/lang/invoke/MethodHandle" ∧ yX1_readable.cls ≠ "java/lang/invoke/VarHandle" ∧ (parseMethodDescriptor yX1_readable.desc).map (fun d => d.parameters.length) = some 2) := by decide +kernel
set_option maxHeartbeats 4000000 in
set_option maxRecDepth 100000 in
theorem L_X1_readable {G : GT} (hG : GOK G) (a0 : Nat) (x1 : Int32) (x2 : Int32) : Cal G yX1_readable (ws_ yX1_readable cX1_readable 4 (Option.some (Jvm.ClassFile.FieldType.object "QuorumAlmanac$Node"))) 8 130 [.ref a0, .int x1, .int x2] rR (m_X1_readable a0 x1 x2) := by
  refine Cal_of hG (by decide +kernel) (Nat.le_of_ble_eq_true rfl) (lv0 := [(0, .ref a0), (1, .int x1), (2, .int x2)]) rfl (fun X σ0 => ?_)
  delta m_X1_readable
  refine Ex_aload_n dX1_readable_0 rfl 0 rfl ?_
  refine Ex_iload_n dX1_readable_1 rfl 1 rfl ?_
  refine Ex_bdR (Inv_V (L_X1_node hG a0 x1) (lw_V q874 q876 qs5 q45 q877) oe_1 ⟨rfl, hm_X1_node⟩ (by decide) (by decide) dX1_readable_2 rfl (Nat.le_of_ble_eq_true rfl)) (fun _ hz => nomatch hz) (fun r24 => ?_)
  refine Ex_astore_n (lv' := [(0, .ref a0), (1, .int x1), (2, .int x2), (3, .ref r24)]) dX1_readable_5 rfl (by decide) [1, 2, 3, 0] rfl ?_
  refine Ex_iload_n dX1_readable_6 rfl 2 rfl ?_
  refine Ex_bdU (Inv_S (L_X1_requireKey hG x2) (lw_S q1805 q1806 q45 q1807) hm_X1_requireKey (by decide) (by decide) dX1_readable_7 rfl (Nat.le_of_ble_eq_true rfl)) (fun _ hz => nomatch hz) (fun _ => ?_)
  refine Ex_aload_n dX1_readable_10 rfl 3 rfl ?_
  refine Ex_gI dX1_readable_11 lk_X1_113 rfl (fun x25 => ?_)
  refine Ex_bdU (Inv_S (L_X1_requireState hG x25) (lw_S q905 q906 q45 q907) hm_X1_requireState (by decide) (by decide) dX1_readable_14 rfl (Nat.le_of_ble_eq_true rfl)) (fun _ hz => nomatch hz) (fun _ => ?_)
  refine Ex_aload_n dX1_readable_17 rfl 3 rfl ?_
  exact Ex_areturn dX1_readable_18 rfl (Or.inl ⟨_, rfl⟩)
-- QuorumAlmanac.readStale(II)I
def m_X1_readStale (a0 : Nat) (x1 : Int32) (x2 : Int32) : Ms Int32 :=
  bd (ko [1] a0 (m_X1_readable a0 x1 x2)) fun r28 =>
  gR [2] 110 r28 fun x29 =>
  gR [4] 116 x29 fun x30 =>
  aI 30 x30 x2 fun x31 =>
  rt x31
theorem hm_X1_readStale : (yX1_readStale.cls ≠ "java/lang/invoke/MethodHandle" ∧ yX1_readStale.cls ≠ "java/lang/invoke/VarHandle" ∧ (parseMethodDescriptor yX1_readStale.desc).map (fun d => d.parameters.length) = some 2) := by decide +kernel
set_option maxHeartbeats 4000000 in
set_option maxRecDepth 100000 in
theorem L_X1_readStale {G : GT} (hG : GOK G) (a0 : Nat) (x1 : Int32) (x2 : Int32) : Cal G yX1_readStale (ws_ yX1_readStale cX1_readStale 3 (Option.some Jvm.ClassFile.FieldType.int)) 9 153 [.ref a0, .int x1, .int x2] rI (m_X1_readStale a0 x1 x2) := by
  refine Cal_of hG (by decide +kernel) (Nat.le_of_ble_eq_true rfl) (lv0 := [(0, .ref a0), (1, .int x1), (2, .int x2)]) rfl (fun X σ0 => ?_)
  delta m_X1_readStale
  refine Ex_aload_n dX1_readStale_0 rfl 0 rfl ?_
  refine Ex_iload_n dX1_readStale_1 rfl 1 rfl ?_
  refine Ex_iload_n dX1_readStale_2 rfl 2 rfl ?_
  refine Ex_bdR (Inv_V (L_X1_readable hG a0 x1 x2) (lw_V q1875 q1877 qs32 q45 q1878) oe_1 ⟨rfl, hm_X1_readable⟩ (by decide) (by decide) dX1_readStale_3 rfl (Nat.le_of_ble_eq_true rfl)) (fun _ hz => nomatch hz) (fun r28 => ?_)
  refine Ex_gR dX1_readStale_6 lk_X1_292 rfl (fun x29 => ?_)
  refine Ex_gR dX1_readStale_9 lk_X1_296 rfl (fun x30 => ?_)
  refine Ex_iload_n dX1_readStale_12 rfl 2 rfl ?_
  refine Ex_aI_i dX1_readStale_13 (fun x31 => ?_)
  exact Ex_ireturn dX1_readStale_14 rfl
-- QuorumAlmanacLaw.readStale(LQuorumAlmanac;II[J)I
def m_X0_readStale (a0 : Nat) (x1 : Int32) (x2 : Int32) (a3 : Nat) : Ms Int32 :=
  tr (ko [1] a0 (m_X1_readStale a0 x1 x2)) (fun r22 =>
    sV 35 a3 0 (.long r22.toInt64) <|
    rt 0) fun e q23 =>
    if e = 0 then
      rt 1
    else 
      if e = 2 then
        rt 2
      else 
        if e = 1 then
          rt 3
        else fl
theorem hm_X0_readStale : (yX0_readStale.cls ≠ "java/lang/invoke/MethodHandle" ∧ yX0_readStale.cls ≠ "java/lang/invoke/VarHandle" ∧ (parseMethodDescriptor yX0_readStale.desc).map (fun d => d.parameters.length) = some 4) := by decide +kernel
set_option maxHeartbeats 4000000 in
set_option maxRecDepth 100000 in
theorem L_X0_readStale {G : GT} (hG : GOK G) (a0 : Nat) (x1 : Int32) (x2 : Int32) (a3 : Nat) : Cal G yX0_readStale (wsW_ yX0_readStale cX0_readStale 5 (Option.some Jvm.ClassFile.FieldType.int) [(0, 10, 13, 13), (0, 10, 17, 90), (0, 10, 21, 15)]) 10 175 [.ref a0, .int x1, .int x2, .ref a3] rI (m_X0_readStale a0 x1 x2 a3) := by
  refine Cal_ofH hG (by decide +kernel) (Nat.le_of_ble_eq_true rfl) (tb := [{ startPc := 0, endPc := 10, handlerPc := 13, catchType := 13 }, { startPc := 0, endPc := 10, handlerPc := 17, catchType := 90 }, { startPc := 0, endPc := 10, handlerPc := 21, catchType := 15 }]) rfl (lv0 := [(0, .ref a0), (1, .int x1), (2, .int x2), (3, .ref a3)]) rfl (fun X σ0 => ?_)
  delta m_X0_readStale
  refine Ex_aload_n dX0_readStale_0 rfl 3 rfl ?_
  refine Ex_iconst (v := 0) dX0_readStale_1 (by decide) ?_
  refine Ex_aload_n dX0_readStale_2 rfl 0 rfl ?_
  refine Ex_iload_n dX0_readStale_3 rfl 1 rfl ?_
  refine Ex_iload_n dX0_readStale_4 rfl 2 rfl ?_
  refine Ex_trI (Inv_V (L_X1_readStale hG a0 x1 x2) (lw_V q1871 q1872 q1873 q45 q1874) oe_1 ⟨rfl, hm_X1_readStale⟩ (by decide) (by decide) dX0_readStale_5 rfl (Nat.le_of_ble_eq_true rfl)) (fun r22 => ?_) (fun e q23 => ?_)
  · refine Ex_i2l dX0_readStale_8 ?_
    refine Ex_last dX0_readStale_9 ?_
    refine Ex_goto (tgt := 25) dX0_readStale_10 (by decide) ?_
    refine Ex_iconst (v := 0) dX0_readStale_25 (by decide) ?_
    exact Ex_ireturn dX0_readStale_26 rfl
  · refine ExT_if (e0 := 0) ?_ ?_
    · refine ExT_catch (name := "java/lang/IndexOutOfBoundsException") [] { startPc := 0, endPc := 10, handlerPc := 13, catchType := 13 } [{ startPc := 0, endPc := 10, handlerPc := 17, catchType := 90 }, { startPc := 0, endPc := 10, handlerPc := 21, catchType := 15 }] rfl (fun _ hz => nomatch hz) rfl (by decide) q784 q886 ?_
      refine Ex_astore (lv' := [(0, .ref a0), (1, .int x1), (2, .int x2), (3, .ref a3), (4, .ref q23)]) dX0_readStale_13 (by decide) [1, 2, 3, 4, 0] rfl ?_
      refine Ex_iconst (v := 1) dX0_readStale_15 (by decide) ?_
      exact Ex_ireturn dX0_readStale_16 rfl
    · refine ExT_if (e0 := 2) ?_ ?_
      · refine ExT_catch (name := "java/lang/IllegalArgumentException") [{ startPc := 0, endPc := 10, handlerPc := 13, catchType := 13 }] { startPc := 0, endPc := 10, handlerPc := 17, catchType := 90 } [{ startPc := 0, endPc := 10, handlerPc := 21, catchType := 15 }] rfl (List.forall_mem_cons.mpr ⟨Or.inr ⟨by decide, "java/lang/IndexOutOfBoundsException", q784, nc_2_0⟩, fun _ hz => nomatch hz⟩) rfl (by decide) q1738 q1619 ?_
        refine Ex_astore (lv' := [(0, .ref a0), (1, .int x1), (2, .int x2), (3, .ref a3), (4, .ref q23)]) dX0_readStale_17 (by decide) [1, 2, 3, 4, 0] rfl ?_
        refine Ex_iconst (v := 2) dX0_readStale_19 (by decide) ?_
        exact Ex_ireturn dX0_readStale_20 rfl
      · refine ExT_if (e0 := 1) ?_ ?_
        · refine ExT_catch (name := "java/lang/IllegalStateException") [{ startPc := 0, endPc := 10, handlerPc := 13, catchType := 13 }, { startPc := 0, endPc := 10, handlerPc := 17, catchType := 90 }] { startPc := 0, endPc := 10, handlerPc := 21, catchType := 15 } [] rfl (List.forall_mem_cons.mpr ⟨Or.inr ⟨by decide, "java/lang/IndexOutOfBoundsException", q784, nc_1_0⟩, List.forall_mem_cons.mpr ⟨Or.inr ⟨by decide, "java/lang/IllegalArgumentException", q1738, nc_1_2⟩, fun _ hz => nomatch hz⟩⟩) rfl (by decide) q865 q910 ?_
          refine Ex_astore (lv' := [(0, .ref a0), (1, .int x1), (2, .int x2), (3, .ref a3), (4, .ref q23)]) dX0_readStale_21 (by decide) [1, 2, 3, 4, 0] rfl ?_
          refine Ex_iconst (v := 3) dX0_readStale_23 (by decide) ?_
          exact Ex_ireturn dX0_readStale_24 rfl
        · exact ExT_fl
-- QuorumAlmanac.rangeOf(II)I
def m_X1_rangeOf (a0 : Nat) (x1 : Int32) (x2 : Int32) : Ms Int32 :=
  bd (ko [1] a0 (m_X1_readable a0 x1 x2)) fun r26 =>
  gR [2] 110 r26 fun x27 =>
  bn (ko [4] x27 (m_X4_rangeOf x27 x2)) fun r28 =>
  rt r28
theorem hm_X1_rangeOf : (yX1_rangeOf.cls ≠ "java/lang/invoke/MethodHandle" ∧ yX1_rangeOf.cls ≠ "java/lang/invoke/VarHandle" ∧ (parseMethodDescriptor yX1_rangeOf.desc).map (fun d => d.parameters.length) = some 2) := by decide +kernel
set_option maxHeartbeats 4000000 in
set_option maxRecDepth 100000 in
theorem L_X1_rangeOf {G : GT} (hG : GOK G) (a0 : Nat) (x1 : Int32) (x2 : Int32) : Cal G yX1_rangeOf (ws_ yX1_rangeOf cX1_rangeOf 3 (Option.some Jvm.ClassFile.FieldType.int)) 9 153 [.ref a0, .int x1, .int x2] rI (m_X1_rangeOf a0 x1 x2) := by
  refine Cal_of hG (by decide +kernel) (Nat.le_of_ble_eq_true rfl) (lv0 := [(0, .ref a0), (1, .int x1), (2, .int x2)]) rfl (fun X σ0 => ?_)
  delta m_X1_rangeOf
  refine Ex_aload_n dX1_rangeOf_0 rfl 0 rfl ?_
  refine Ex_iload_n dX1_rangeOf_1 rfl 1 rfl ?_
  refine Ex_iload_n dX1_rangeOf_2 rfl 2 rfl ?_
  refine Ex_bdR (Inv_V (L_X1_readable hG a0 x1 x2) (lw_V q1875 q1877 qs32 q45 q1878) oe_1 ⟨rfl, hm_X1_readable⟩ (by decide) (by decide) dX1_rangeOf_3 rfl (Nat.le_of_ble_eq_true rfl)) (fun _ hz => nomatch hz) (fun r26 => ?_)
  refine Ex_gR dX1_rangeOf_6 lk_X1_292 rfl (fun x27 => ?_)
  refine Ex_iload_n dX1_rangeOf_9 rfl 2 rfl ?_
  refine Ex_bnI (Inv_V (L_X4_rangeOf hG x27 x2) (lw_V q1886 q1308 q1309 q52 q1310) oe_4 ⟨rfl, hm_X4_rangeOf⟩ (by decide) (by decide) dX1_rangeOf_10 rfl (Nat.le_of_ble_eq_true rfl)) (fun r28 => ?_)
  exact Ex_ireturn dX1_rangeOf_13 rfl
-- QuorumAlmanacLaw.rangeOf(LQuorumAlmanac;II[J)I
def m_X0_rangeOf (a0 : Nat) (x1 : Int32) (x2 : Int32) (a3 : Nat) : Ms Int32 :=
  tr (ko [1] a0 (m_X1_rangeOf a0 x1 x2)) (fun r22 =>
    sV 35 a3 0 (.long r22.toInt64) <|
    rt 0) fun e q23 =>
    if e = 0 then
      rt 1
    else 
      if e = 2 then
        rt 2
      else 
        if e = 1 then
          rt 3
        else fl
theorem hm_X0_rangeOf : (yX0_rangeOf.cls ≠ "java/lang/invoke/MethodHandle" ∧ yX0_rangeOf.cls ≠ "java/lang/invoke/VarHandle" ∧ (parseMethodDescriptor yX0_rangeOf.desc).map (fun d => d.parameters.length) = some 4) := by decide +kernel
set_option maxHeartbeats 4000000 in
set_option maxRecDepth 100000 in
theorem L_X0_rangeOf {G : GT} (hG : GOK G) (a0 : Nat) (x1 : Int32) (x2 : Int32) (a3 : Nat) : Cal G yX0_rangeOf (wsW_ yX0_rangeOf cX0_rangeOf 5 (Option.some Jvm.ClassFile.FieldType.int) [(0, 10, 13, 13), (0, 10, 17, 90), (0, 10, 21, 15)]) 10 175 [.ref a0, .int x1, .int x2, .ref a3] rI (m_X0_rangeOf a0 x1 x2 a3) := by
  refine Cal_ofH hG (by decide +kernel) (Nat.le_of_ble_eq_true rfl) (tb := [{ startPc := 0, endPc := 10, handlerPc := 13, catchType := 13 }, { startPc := 0, endPc := 10, handlerPc := 17, catchType := 90 }, { startPc := 0, endPc := 10, handlerPc := 21, catchType := 15 }]) rfl (lv0 := [(0, .ref a0), (1, .int x1), (2, .int x2), (3, .ref a3)]) rfl (fun X σ0 => ?_)
  delta m_X0_rangeOf
  refine Ex_aload_n dX0_rangeOf_0 rfl 3 rfl ?_
  refine Ex_iconst (v := 0) dX0_rangeOf_1 (by decide) ?_
  refine Ex_aload_n dX0_rangeOf_2 rfl 0 rfl ?_
  refine Ex_iload_n dX0_rangeOf_3 rfl 1 rfl ?_
  refine Ex_iload_n dX0_rangeOf_4 rfl 2 rfl ?_
  refine Ex_trI (Inv_V (L_X1_rangeOf hG a0 x1 x2) (lw_V q1882 q1883 q1884 q45 q1885) oe_1 ⟨rfl, hm_X1_rangeOf⟩ (by decide) (by decide) dX0_rangeOf_5 rfl (Nat.le_of_ble_eq_true rfl)) (fun r22 => ?_) (fun e q23 => ?_)
  · refine Ex_i2l dX0_rangeOf_8 ?_
    refine Ex_last dX0_rangeOf_9 ?_
    refine Ex_goto (tgt := 25) dX0_rangeOf_10 (by decide) ?_
    refine Ex_iconst (v := 0) dX0_rangeOf_25 (by decide) ?_
    exact Ex_ireturn dX0_rangeOf_26 rfl
  · refine ExT_if (e0 := 0) ?_ ?_
    · refine ExT_catch (name := "java/lang/IndexOutOfBoundsException") [] { startPc := 0, endPc := 10, handlerPc := 13, catchType := 13 } [{ startPc := 0, endPc := 10, handlerPc := 17, catchType := 90 }, { startPc := 0, endPc := 10, handlerPc := 21, catchType := 15 }] rfl (fun _ hz => nomatch hz) rfl (by decide) q784 q886 ?_
      refine Ex_astore (lv' := [(0, .ref a0), (1, .int x1), (2, .int x2), (3, .ref a3), (4, .ref q23)]) dX0_rangeOf_13 (by decide) [1, 2, 3, 4, 0] rfl ?_
      refine Ex_iconst (v := 1) dX0_rangeOf_15 (by decide) ?_
      exact Ex_ireturn dX0_rangeOf_16 rfl
    · refine ExT_if (e0 := 2) ?_ ?_
      · refine ExT_catch (name := "java/lang/IllegalArgumentException") [{ startPc := 0, endPc := 10, handlerPc := 13, catchType := 13 }] { startPc := 0, endPc := 10, handlerPc := 17, catchType := 90 } [{ startPc := 0, endPc := 10, handlerPc := 21, catchType := 15 }] rfl (List.forall_mem_cons.mpr ⟨Or.inr ⟨by decide, "java/lang/IndexOutOfBoundsException", q784, nc_2_0⟩, fun _ hz => nomatch hz⟩) rfl (by decide) q1738 q1619 ?_
        refine Ex_astore (lv' := [(0, .ref a0), (1, .int x1), (2, .int x2), (3, .ref a3), (4, .ref q23)]) dX0_rangeOf_17 (by decide) [1, 2, 3, 4, 0] rfl ?_
        refine Ex_iconst (v := 2) dX0_rangeOf_19 (by decide) ?_
        exact Ex_ireturn dX0_rangeOf_20 rfl
      · refine ExT_if (e0 := 1) ?_ ?_
        · refine ExT_catch (name := "java/lang/IllegalStateException") [{ startPc := 0, endPc := 10, handlerPc := 13, catchType := 13 }, { startPc := 0, endPc := 10, handlerPc := 17, catchType := 90 }] { startPc := 0, endPc := 10, handlerPc := 21, catchType := 15 } [] rfl (List.forall_mem_cons.mpr ⟨Or.inr ⟨by decide, "java/lang/IndexOutOfBoundsException", q784, nc_1_0⟩, List.forall_mem_cons.mpr ⟨Or.inr ⟨by decide, "java/lang/IllegalArgumentException", q1738, nc_1_2⟩, fun _ hz => nomatch hz⟩⟩) rfl (by decide) q865 q910 ?_
          refine Ex_astore (lv' := [(0, .ref a0), (1, .int x1), (2, .int x2), (3, .ref a3), (4, .ref q23)]) dX0_rangeOf_21 (by decide) [1, 2, 3, 4, 0] rfl ?_
          refine Ex_iconst (v := 3) dX0_rangeOf_23 (by decide) ?_
          exact Ex_ireturn dX0_rangeOf_24 rfl
        · exact ExT_fl
-- QuorumAlmanac.load(II)I
def m_X1_load (a0 : Nat) (x1 : Int32) (x2 : Int32) : Ms Int32 :=
  bd (ko [1] a0 (m_X1_readable a0 x1 x2)) fun r30 =>
  gR [2] 110 r30 fun x31 =>
  gR [4] 118 x31 fun x32 =>
  bn (ko [4] x31 (m_X4_rangeOf x31 x2)) fun r33 =>
  aI 30 x32 r33 fun x34 =>
  rt x34
theorem hm_X1_load : (yX1_load.cls ≠ "java/lang/invoke/MethodHandle" ∧ yX1_load.cls ≠ "java/lang/invoke/VarHandle" ∧ (parseMethodDescriptor yX1_load.desc).map (fun d => d.parameters.length) = some 2) := by decide +kernel
set_option maxHeartbeats 4000000 in
set_option maxRecDepth 100000 in
theorem L_X1_load {G : GT} (hG : GOK G) (a0 : Nat) (x1 : Int32) (x2 : Int32) : Cal G yX1_load (ws_ yX1_load cX1_load 4 (Option.some Jvm.ClassFile.FieldType.int)) 9 153 [.ref a0, .int x1, .int x2] rI (m_X1_load a0 x1 x2) := by
  refine Cal_of hG (by decide +kernel) (Nat.le_of_ble_eq_true rfl) (lv0 := [(0, .ref a0), (1, .int x1), (2, .int x2)]) rfl (fun X σ0 => ?_)
  delta m_X1_load
  refine Ex_aload_n dX1_load_0 rfl 0 rfl ?_
  refine Ex_iload_n dX1_load_1 rfl 1 rfl ?_
  refine Ex_iload_n dX1_load_2 rfl 2 rfl ?_
  refine Ex_bdR (Inv_V (L_X1_readable hG a0 x1 x2) (lw_V q1875 q1877 qs32 q45 q1878) oe_1 ⟨rfl, hm_X1_readable⟩ (by decide) (by decide) dX1_load_3 rfl (Nat.le_of_ble_eq_true rfl)) (fun _ hz => nomatch hz) (fun r30 => ?_)
  refine Ex_gR dX1_load_6 lk_X1_292 rfl (fun x31 => ?_)
  refine Ex_astore_n (lv' := [(0, .ref a0), (1, .int x1), (2, .int x2), (3, .ref x31)]) dX1_load_9 rfl (by decide) [1, 2, 3, 0] rfl ?_
  refine Ex_aload_n dX1_load_10 rfl 3 rfl ?_
  refine Ex_gR dX1_load_11 lk_X1_328 rfl (fun x32 => ?_)
  refine Ex_aload_n dX1_load_14 rfl 3 rfl ?_
  refine Ex_iload_n dX1_load_15 rfl 2 rfl ?_
  refine Ex_bnI (Inv_V (L_X4_rangeOf hG x31 x2) (lw_V q1886 q1308 q1309 q52 q1310) oe_4 ⟨rfl, hm_X4_rangeOf⟩ (by decide) (by decide) dX1_load_16 rfl (Nat.le_of_ble_eq_true rfl)) (fun r33 => ?_)
  refine Ex_aI_i dX1_load_19 (fun x34 => ?_)
  exact Ex_ireturn dX1_load_20 rfl
-- QuorumAlmanacLaw.load(LQuorumAlmanac;II[J)I
def m_X0_load (a0 : Nat) (x1 : Int32) (x2 : Int32) (a3 : Nat) : Ms Int32 :=
  tr (ko [1] a0 (m_X1_load a0 x1 x2)) (fun r22 =>
    sV 35 a3 0 (.long r22.toInt64) <|
    rt 0) fun e q23 =>
    if e = 0 then
      rt 1
    else 
      if e = 2 then
        rt 2
      else 
        if e = 1 then
          rt 3
        else fl
theorem hm_X0_load : (yX0_load.cls ≠ "java/lang/invoke/MethodHandle" ∧ yX0_load.cls ≠ "java/lang/invoke/VarHandle" ∧ (parseMethodDescriptor yX0_load.desc).map (fun d => d.parameters.length) = some 4) := by decide +kernel
set_option maxHeartbeats 4000000 in
set_option maxRecDepth 100000 in
theorem L_X0_load {G : GT} (hG : GOK G) (a0 : Nat) (x1 : Int32) (x2 : Int32) (a3 : Nat) : Cal G yX0_load (wsW_ yX0_load cX0_load 5 (Option.some Jvm.ClassFile.FieldType.int) [(0, 10, 13, 13), (0, 10, 17, 90), (0, 10, 21, 15)]) 10 176 [.ref a0, .int x1, .int x2, .ref a3] rI (m_X0_load a0 x1 x2 a3) := by
  refine Cal_ofH hG (by decide +kernel) (Nat.le_of_ble_eq_true rfl) (tb := [{ startPc := 0, endPc := 10, handlerPc := 13, catchType := 13 }, { startPc := 0, endPc := 10, handlerPc := 17, catchType := 90 }, { startPc := 0, endPc := 10, handlerPc := 21, catchType := 15 }]) rfl (lv0 := [(0, .ref a0), (1, .int x1), (2, .int x2), (3, .ref a3)]) rfl (fun X σ0 => ?_)
  delta m_X0_load
  refine Ex_aload_n dX0_load_0 rfl 3 rfl ?_
  refine Ex_iconst (v := 0) dX0_load_1 (by decide) ?_
  refine Ex_aload_n dX0_load_2 rfl 0 rfl ?_
  refine Ex_iload_n dX0_load_3 rfl 1 rfl ?_
  refine Ex_iload_n dX0_load_4 rfl 2 rfl ?_
  refine Ex_trI (Inv_V (L_X1_load hG a0 x1 x2) (lw_V q1890 q1891 q1892 q45 q1893) oe_1 ⟨rfl, hm_X1_load⟩ (by decide) (by decide) dX0_load_5 rfl (Nat.le_of_ble_eq_true rfl)) (fun r22 => ?_) (fun e q23 => ?_)
  · refine Ex_i2l dX0_load_8 ?_
    refine Ex_last dX0_load_9 ?_
    refine Ex_goto (tgt := 25) dX0_load_10 (by decide) ?_
    refine Ex_iconst (v := 0) dX0_load_25 (by decide) ?_
    exact Ex_ireturn dX0_load_26 rfl
  · refine ExT_if (e0 := 0) ?_ ?_
    · refine ExT_catch (name := "java/lang/IndexOutOfBoundsException") [] { startPc := 0, endPc := 10, handlerPc := 13, catchType := 13 } [{ startPc := 0, endPc := 10, handlerPc := 17, catchType := 90 }, { startPc := 0, endPc := 10, handlerPc := 21, catchType := 15 }] rfl (fun _ hz => nomatch hz) rfl (by decide) q784 q886 ?_
      refine Ex_astore (lv' := [(0, .ref a0), (1, .int x1), (2, .int x2), (3, .ref a3), (4, .ref q23)]) dX0_load_13 (by decide) [1, 2, 3, 4, 0] rfl ?_
      refine Ex_iconst (v := 1) dX0_load_15 (by decide) ?_
      exact Ex_ireturn dX0_load_16 rfl
    · refine ExT_if (e0 := 2) ?_ ?_
      · refine ExT_catch (name := "java/lang/IllegalArgumentException") [{ startPc := 0, endPc := 10, handlerPc := 13, catchType := 13 }] { startPc := 0, endPc := 10, handlerPc := 17, catchType := 90 } [{ startPc := 0, endPc := 10, handlerPc := 21, catchType := 15 }] rfl (List.forall_mem_cons.mpr ⟨Or.inr ⟨by decide, "java/lang/IndexOutOfBoundsException", q784, nc_2_0⟩, fun _ hz => nomatch hz⟩) rfl (by decide) q1738 q1619 ?_
        refine Ex_astore (lv' := [(0, .ref a0), (1, .int x1), (2, .int x2), (3, .ref a3), (4, .ref q23)]) dX0_load_17 (by decide) [1, 2, 3, 4, 0] rfl ?_
        refine Ex_iconst (v := 2) dX0_load_19 (by decide) ?_
        exact Ex_ireturn dX0_load_20 rfl
      · refine ExT_if (e0 := 1) ?_ ?_
        · refine ExT_catch (name := "java/lang/IllegalStateException") [{ startPc := 0, endPc := 10, handlerPc := 13, catchType := 13 }, { startPc := 0, endPc := 10, handlerPc := 17, catchType := 90 }] { startPc := 0, endPc := 10, handlerPc := 21, catchType := 15 } [] rfl (List.forall_mem_cons.mpr ⟨Or.inr ⟨by decide, "java/lang/IndexOutOfBoundsException", q784, nc_1_0⟩, List.forall_mem_cons.mpr ⟨Or.inr ⟨by decide, "java/lang/IllegalArgumentException", q1738, nc_1_2⟩, fun _ hz => nomatch hz⟩⟩) rfl (by decide) q865 q910 ?_
          refine Ex_astore (lv' := [(0, .ref a0), (1, .int x1), (2, .int x2), (3, .ref a3), (4, .ref q23)]) dX0_load_21 (by decide) [1, 2, 3, 4, 0] rfl ?_
          refine Ex_iconst (v := 3) dX0_load_23 (by decide) ?_
          exact Ex_ireturn dX0_load_24 rfl
        · exact ExT_fl
-- QuorumAlmanac.valueByHistory(I)I
def m_X1_valueByHistory (a0 : Nat) (x1 : Int32) : Ms Int32 :=
  bd (m_X1_requireKey x1) fun _ =>
  nO 4 3 dfl fun a34 =>
  bn (m_X4_init a34) fun _ =>
  gR [1] 107 a0 fun x35 =>
  bn (ko [22] x35 (m_J2_iterator x35)) fun r36 =>
  lp (fun j38 (v37 : Unit) =>
      bn (ko [23] r36 (m_J17_hasNext r36)) fun r39 =>
      if r39 = 0 then
        gR [4] 116 a34 fun x40 =>
        aI 30 x40 x1 fun x41 =>
        rt x41
      else
        bn (ko [23] r36 (m_J17_next r36)) fun r42 =>
        ko [9] r42 <|
        bn (ko [4] a34 (m_X4_apply a34 r42)) fun _ =>
        j38 ())
    ()
theorem hm_X1_valueByHistory : (yX1_valueByHistory.cls ≠ "java/lang/invoke/MethodHandle" ∧ yX1_valueByHistory.cls ≠ "java/lang/invoke/VarHandle" ∧ (parseMethodDescriptor yX1_valueByHistory.desc).map (fun d => d.parameters.length) = some 1) := by decide +kernel
set_option maxHeartbeats 4000000 in
set_option maxRecDepth 100000 in
theorem L_X1_valueByHistory {G : GT} (hG : GOK G) (a0 : Nat) (x1 : Int32) : Cal G yX1_valueByHistory (ws_ yX1_valueByHistory cX1_valueByHistory 5 (Option.some Jvm.ClassFile.FieldType.int)) 8 129 [.ref a0, .int x1] rI (m_X1_valueByHistory a0 x1) := by
  refine Cal_of hG (by decide +kernel) (Nat.le_of_ble_eq_true rfl) (lv0 := [(0, .ref a0), (1, .int x1)]) rfl (fun X σ0 => ?_)
  delta m_X1_valueByHistory
  refine Ex_iload_n dX1_valueByHistory_0 rfl 1 rfl ?_
  refine Ex_bdU (Inv_S (L_X1_requireKey hG x1) (lw_S q1805 q1806 q45 q1807) hm_X1_requireKey (by decide) (by decide) dX1_valueByHistory_1 rfl (Nat.le_of_ble_eq_true rfl)) (fun _ hz => nomatch hz) (fun _ => ?_)
  refine Ex_nO (ci := 3) (q := qcl 3) dX1_valueByHistory_4 rfl q1901 q177 q52 (fun a34 => ?_)
  refine Ex_dup rfl dX1_valueByHistory_7 ?_
  refine Ex_bnU (Inv_I (L_X4_init hG a34) q52 q1902 q179 q180 rfl hm_X4_init (by decide) (by decide) dX1_valueByHistory_8 rfl (Nat.le_of_ble_eq_true rfl)) (fun _ => ?_)
  refine Ex_astore_n (lv' := [(0, .ref a0), (1, .int x1), (2, .ref a34)]) dX1_valueByHistory_11 rfl (by decide) [1, 2, 0] rfl ?_
  refine Ex_aload_n dX1_valueByHistory_12 rfl 0 rfl ?_
  refine Ex_gR dX1_valueByHistory_13 lk_X1_49 rfl (fun x35 => ?_)
  refine Ex_bnR (Inv_V (L_J2_iterator hG x35) (lw_V q1506 q1149 q1150 q48 q1151) oe_22 ⟨rfl, hm_J2_iterator⟩ (by decide) (by decide) dX1_valueByHistory_16 rfl (Nat.le_of_ble_eq_true rfl)) (fun r36 => ?_)
  refine Ex_astore_n (lv' := [(0, .ref a0), (1, .int x1), (2, .ref a34), (3, .ref r36)]) dX1_valueByHistory_19 rfl (by decide) [1, 2, 3, 0] rfl ?_
  refine Ex_lv [1, 2, 3] (lv' := [(1, .int x1), (2, .ref a34), (3, .ref r36)]) rfl ?_
  refine Ex_lp (γ := Unit) (pj := 20) (fun v37 => [(1, .int x1), (2, .ref a34), (3, .ref r36)]) (fun v37 => []) (fun j38 hj38 v37 => ?_) () rfl rfl
  refine Ex_aload_n dX1_valueByHistory_20 rfl 2 rfl ?_
  refine Ex_bnI (Inv_F (L_J17_hasNext hG r36) (lw_F q1508 q1176 q1178 q77 q1180) q1174 q1173 q1179 q1177 q1175 oe_23 hx_Iterator_hasNext (by decide) (by decide) dX1_valueByHistory_21 rfl (Nat.le_of_ble_eq_true rfl)) (fun r39 => ?_)
  refine Ex_if_eq (tgt := 49) dX1_valueByHistory_26 (by decide) ?_ ?_
  · refine Ex_aload_n dX1_valueByHistory_49 rfl 1 rfl ?_
    refine Ex_gR dX1_valueByHistory_50 lk_X1_296 rfl (fun x40 => ?_)
    refine Ex_iload_n dX1_valueByHistory_53 rfl 0 rfl ?_
    refine Ex_aI_i dX1_valueByHistory_54 (fun x41 => ?_)
    exact Ex_ireturn dX1_valueByHistory_55 rfl
  · refine Ex_aload_n dX1_valueByHistory_29 rfl 2 rfl ?_
    refine Ex_bnR (Inv_F (L_J17_next hG r36) (lw_F q1510 q1185 q1187 q77 q1189) q1184 q1183 q1188 q1186 q1175 oe_23 hx_Iterator_next (by decide) (by decide) dX1_valueByHistory_30 rfl (Nat.le_of_ble_eq_true rfl)) (fun r42 => ?_)
    refine Ex_ko dX1_valueByHistory_35 q742 oc_QuorumAlmanac_Entry_9 ?_
    refine Ex_astore (lv' := [(1, .int x1), (2, .ref a34), (3, .ref r36), (4, .ref r42)]) dX1_valueByHistory_38 (by decide) [1, 2, 3, 0] rfl ?_
    refine Ex_aload_n dX1_valueByHistory_40 rfl 1 rfl ?_
    refine Ex_aload dX1_valueByHistory_41 3 rfl ?_
    refine Ex_bnU (Inv_V (L_X4_apply hG a34 r42) (lw_V q1903 q1304 q1305 q52 q1306) oe_4 ⟨rfl, hm_X4_apply⟩ (by decide) (by decide) dX1_valueByHistory_43 rfl (Nat.le_of_ble_eq_true rfl)) (fun _ => ?_)
    refine Ex_goto (tgt := 20) dX1_valueByHistory_46 (by decide) ?_
    refine Ex_lv [0, 1, 2] (lv' := [(1, .int x1), (2, .ref a34), (3, .ref r36)]) rfl ?_
    exact hj38 ()
-- QuorumAlmanacLaw.valueByHistory(LQuorumAlmanac;I[J)I
def m_X0_valueByHistory (a0 : Nat) (x1 : Int32) (a2 : Nat) : Ms Int32 :=
  tr (ko [1] a0 (m_X1_valueByHistory a0 x1)) (fun r22 =>
    sV 35 a2 0 (.long r22.toInt64) <|
    rt 0) fun e q23 =>
    if e = 2 then
      rt 1
    else fl
theorem hm_X0_valueByHistory : (yX0_valueByHistory.cls ≠ "java/lang/invoke/MethodHandle" ∧ yX0_valueByHistory.cls ≠ "java/lang/invoke/VarHandle" ∧ (parseMethodDescriptor yX0_valueByHistory.desc).map (fun d => d.parameters.length) = some 3) := by decide +kernel
set_option maxHeartbeats 4000000 in
set_option maxRecDepth 100000 in
theorem L_X0_valueByHistory {G : GT} (hG : GOK G) (a0 : Nat) (x1 : Int32) (a2 : Nat) : Cal G yX0_valueByHistory (wsW_ yX0_valueByHistory cX0_valueByHistory 4 (Option.some Jvm.ClassFile.FieldType.int) [(0, 9, 12, 90)]) 9 153 [.ref a0, .int x1, .ref a2] rI (m_X0_valueByHistory a0 x1 a2) := by
  refine Cal_ofH hG (by decide +kernel) (Nat.le_of_ble_eq_true rfl) (tb := [{ startPc := 0, endPc := 9, handlerPc := 12, catchType := 90 }]) rfl (lv0 := [(0, .ref a0), (1, .int x1), (2, .ref a2)]) rfl (fun X σ0 => ?_)
  delta m_X0_valueByHistory
  refine Ex_aload_n dX0_valueByHistory_0 rfl 2 rfl ?_
  refine Ex_iconst (v := 0) dX0_valueByHistory_1 (by decide) ?_
  refine Ex_aload_n dX0_valueByHistory_2 rfl 0 rfl ?_
  refine Ex_iload_n dX0_valueByHistory_3 rfl 1 rfl ?_
  refine Ex_trI (Inv_V (L_X1_valueByHistory hG a0 x1) (lw_V q1897 q1898 q1899 q45 q1900) oe_1 ⟨rfl, hm_X1_valueByHistory⟩ (by decide) (by decide) dX0_valueByHistory_4 rfl (Nat.le_of_ble_eq_true rfl)) (fun r22 => ?_) (fun e q23 => ?_)
  · refine Ex_i2l dX0_valueByHistory_7 ?_
    refine Ex_last dX0_valueByHistory_8 ?_
    refine Ex_goto (tgt := 15) dX0_valueByHistory_9 (by decide) ?_
    refine Ex_iconst (v := 0) dX0_valueByHistory_15 (by decide) ?_
    exact Ex_ireturn dX0_valueByHistory_16 rfl
  · refine ExT_if (e0 := 2) ?_ ?_
    · refine ExT_catch (name := "java/lang/IllegalArgumentException") [] { startPc := 0, endPc := 9, handlerPc := 12, catchType := 90 } [] rfl (fun _ hz => nomatch hz) rfl (by decide) q1738 q1619 ?_
      refine Ex_astore_n (lv' := [(0, .ref a0), (1, .int x1), (2, .ref a2), (3, .ref q23)]) dX0_valueByHistory_12 rfl (by decide) [1, 2, 3, 0] rfl ?_
      refine Ex_iconst (v := 1) dX0_valueByHistory_13 (by decide) ?_
      exact Ex_ireturn dX0_valueByHistory_14 rfl
    · exact ExT_fl
