-- QuorumAlmanac.start(I)I
def m_X1_start (a0 : Nat) (x1 : Int32) : Ms Int32 :=
  bd (ko [1] a0 (m_X1_node a0 x1)) fun r26 =>
  gI [2] 5 r26 fun x27 =>
  jn (fun (v28 : Int32) =>
      bd (m_X1_requireState v28) fun _ =>
      bn (ko [2] r26 (m_X2_start r26)) fun r30 =>
      rt r30)
    fun j29 =>
    if ¬ x27 = 0 then
      j29 0
    else
      j29 1
theorem hm_X1_start : (yX1_start.cls ≠ "java/lang/invoke/MethodHandle" ∧ yX1_start.cls ≠ "java/lang/invoke/VarHandle" ∧ (parseMethodDescriptor yX1_start.desc).map (fun d => d.parameters.length) = some 1) := by decide +kernel
set_option maxHeartbeats 4000000 in
set_option maxRecDepth 100000 in
theorem L_X1_start {G : GT} (hG : GOK G) (a0 : Nat) (x1 : Int32) : Cal G yX1_start (ws_ yX1_start cX1_start 3 (Option.some Jvm.ClassFile.FieldType.int)) 8 130 [.ref a0, .int x1] rI (m_X1_start a0 x1) := by
  refine Cal_of hG (by decide +kernel) (Nat.le_of_ble_eq_true rfl) (lv0 := [(0, .ref a0), (1, .int x1)]) rfl (fun X σ0 => ?_)
  delta m_X1_start
  refine Ex_aload_n dX1_start_0 rfl 0 rfl ?_
  refine Ex_iload_n dX1_start_1 rfl 1 rfl ?_
  refine Ex_bdR (Inv_V (L_X1_node hG a0 x1) (lw_V q874 q876 qs5 q45 q877) oe_1 ⟨rfl, hm_X1_node⟩ (by decide) (by decide) dX1_start_2 rfl (Nat.le_of_ble_eq_true rfl)) (fun _ hz => nomatch hz) (fun r26 => ?_)
  refine Ex_astore_n (lv' := [(0, .ref a0), (1, .int x1), (2, .ref r26)]) dX1_start_5 rfl (by decide) [1, 2, 0] rfl ?_
  refine Ex_aload_n dX1_start_6 rfl 2 rfl ?_
  refine Ex_gI dX1_start_7 lk_X1_113 rfl (fun x27 => ?_)
  refine Ex_jn (γ := Int32) (pj := 18) (fun v28 => [(2, .ref r26)]) (fun v28 => [.int v28]) (fun v28 => ?_) (fun j29 hj29 => ?_)
  · refine Ex_bdU (Inv_S (L_X1_requireState hG v28) (lw_S q905 q906 q45 q907) hm_X1_requireState (by decide) (by decide) dX1_start_18 rfl (Nat.le_of_ble_eq_true rfl)) (fun _ hz => nomatch hz) (fun _ => ?_)
    refine Ex_aload_n dX1_start_21 rfl 0 rfl ?_
    refine Ex_bnI (Inv_V (L_X2_start hG r26) (lw_V q1373 q1374 q1375 q50 q1376) oe_2 ⟨rfl, hm_X2_start⟩ (by decide) (by decide) dX1_start_22 rfl (Nat.le_of_ble_eq_true rfl)) (fun r30 => ?_)
    exact Ex_ireturn dX1_start_25 rfl
  · refine Ex_if_ne (tgt := 17) dX1_start_10 (by decide) ?_ ?_
    · refine Ex_iconst (v := 0) dX1_start_17 (by decide) ?_
      refine Ex_lv [2] (lv' := [(2, .ref r26)]) rfl ?_
      exact hj29 0
    · refine Ex_iconst (v := 1) dX1_start_13 (by decide) ?_
      refine Ex_goto (tgt := 18) dX1_start_14 (by decide) ?_
      refine Ex_lv [2] (lv' := [(2, .ref r26)]) rfl ?_
      exact hj29 1
-- QuorumAlmanacLaw.start(LQuorumAlmanac;I[J)I
def m_X0_start (a0 : Nat) (x1 : Int32) (a2 : Nat) : Ms Int32 :=
  tr (ko [1] a0 (m_X1_start a0 x1)) (fun r22 =>
    sV 35 a2 0 (.long r22.toInt64) <|
    rt 0) fun e q23 =>
    if e = 0 then
      rt 1
    else 
      if e = 1 then
        rt 2
      else fl
theorem hm_X0_start : (yX0_start.cls ≠ "java/lang/invoke/MethodHandle" ∧ yX0_start.cls ≠ "java/lang/invoke/VarHandle" ∧ (parseMethodDescriptor yX0_start.desc).map (fun d => d.parameters.length) = some 3) := by decide +kernel
set_option maxHeartbeats 4000000 in
set_option maxRecDepth 100000 in
theorem L_X0_start {G : GT} (hG : GOK G) (a0 : Nat) (x1 : Int32) (a2 : Nat) : Cal G yX0_start (wsW_ yX0_start cX0_start 4 (Option.some Jvm.ClassFile.FieldType.int) [(0, 9, 12, 13), (0, 9, 15, 15)]) 9 152 [.ref a0, .int x1, .ref a2] rI (m_X0_start a0 x1 a2) := by
  refine Cal_ofH hG (by decide +kernel) (Nat.le_of_ble_eq_true rfl) (tb := [{ startPc := 0, endPc := 9, handlerPc := 12, catchType := 13 }, { startPc := 0, endPc := 9, handlerPc := 15, catchType := 15 }]) rfl (lv0 := [(0, .ref a0), (1, .int x1), (2, .ref a2)]) rfl (fun X σ0 => ?_)
  delta m_X0_start
  refine Ex_aload_n dX0_start_0 rfl 2 rfl ?_
  refine Ex_iconst (v := 0) dX0_start_1 (by decide) ?_
  refine Ex_aload_n dX0_start_2 rfl 0 rfl ?_
  refine Ex_iload_n dX0_start_3 rfl 1 rfl ?_
  refine Ex_trI (Inv_V (L_X1_start hG a0 x1) (lw_V q1369 q1370 q1371 q45 q1372) oe_1 ⟨rfl, hm_X1_start⟩ (by decide) (by decide) dX0_start_4 rfl (Nat.le_of_ble_eq_true rfl)) (fun r22 => ?_) (fun e q23 => ?_)
  · refine Ex_i2l dX0_start_7 ?_
    refine Ex_last dX0_start_8 ?_
    refine Ex_goto (tgt := 18) dX0_start_9 (by decide) ?_
    refine Ex_iconst (v := 0) dX0_start_18 (by decide) ?_
    exact Ex_ireturn dX0_start_19 rfl
  · refine ExT_if (e0 := 0) ?_ ?_
    · refine ExT_catch (name := "java/lang/IndexOutOfBoundsException") [] { startPc := 0, endPc := 9, handlerPc := 12, catchType := 13 } [{ startPc := 0, endPc := 9, handlerPc := 15, catchType := 15 }] rfl (fun _ hz => nomatch hz) rfl (by decide) q784 q886 ?_
      refine Ex_astore_n (lv' := [(0, .ref a0), (1, .int x1), (2, .ref a2), (3, .ref q23)]) dX0_start_12 rfl (by decide) [1, 2, 3, 0] rfl ?_
      refine Ex_iconst (v := 1) dX0_start_13 (by decide) ?_
      exact Ex_ireturn dX0_start_14 rfl
    · refine ExT_if (e0 := 1) ?_ ?_
      · refine ExT_catch (name := "java/lang/IllegalStateException") [{ startPc := 0, endPc := 9, handlerPc := 12, catchType := 13 }] { startPc := 0, endPc := 9, handlerPc := 15, catchType := 15 } [] rfl (List.forall_mem_cons.mpr ⟨Or.inr ⟨by decide, "java/lang/IndexOutOfBoundsException", q784, nc_1_0⟩, fun _ hz => nomatch hz⟩) rfl (by decide) q865 q910 ?_
        refine Ex_astore_n (lv' := [(0, .ref a0), (1, .int x1), (2, .ref a2), (3, .ref q23)]) dX0_start_15 rfl (by decide) [1, 2, 3, 0] rfl ?_
        refine Ex_iconst (v := 2) dX0_start_16 (by decide) ?_
        exact Ex_ireturn dX0_start_17 rfl
      · exact ExT_fl
-- QuorumAlmanac$Node.membersAt(I)LQuorumAlmanac$Members;
def m_X2_membersAt (a0 : Nat) (x1 : Int32) : Ms Nat :=
  lp (fun j44 (v43 : Int32) =>
      gR [2] 108 a0 fun x45 =>
      gI [5] 20 x45 fun x46 =>
      if v43 ≤ x46 then
        gR [2] 108 a0 fun x47 =>
        gR [5] 119 x47 fun x48 =>
        rt x48
      else
        bn (ko [2] a0 (m_X2_entry a0 v43)) fun r49 =>
        gI [9] 33 r49 fun x50 =>
        jn (fun (v51 : Unit) =>
            nO 3 2 dfl fun a53 =>
            gI [9] 33 r49 fun x54 =>
            jn (fun (v55 : Int32 × Nat × Nat) =>
                gI [9] 34 r49 fun x57 =>
                bn (m_X3_init v55.2.1 v55.1 x57) fun _ =>
                rt v55.2.2)
              fun j56 =>
              if ¬ x54 = 106 then
                j56 (0, a53, a53)
              else
                gI [9] 35 r49 fun x58 =>
                j56 (x58, a53, a53))
          fun j52 =>
          if x50 = 106 then
            j52 ()
          else
            gI [9] 33 r49 fun x59 =>
            if ¬ x59 = 110 then
              j44 (v43 + (-1))
            else
              j52 ())
    x1
theorem hm_X2_membersAt : (yX2_membersAt.cls ≠ "java/lang/invoke/MethodHandle" ∧ yX2_membersAt.cls ≠ "java/lang/invoke/VarHandle" ∧ (parseMethodDescriptor yX2_membersAt.desc).map (fun d => d.parameters.length) = some 1) := by decide +kernel
set_option maxHeartbeats 4000000 in
set_option maxRecDepth 100000 in
theorem L_X2_membersAt {G : GT} (hG : GOK G) (a0 : Nat) (x1 : Int32) : Cal G yX2_membersAt (ws_ yX2_membersAt cX2_membersAt 4 (Option.some (Jvm.ClassFile.FieldType.object "QuorumAlmanac$Members"))) 6 145 [.ref a0, .int x1] rR (m_X2_membersAt a0 x1) := by
  refine Cal_of hG (by decide +kernel) (Nat.le_of_ble_eq_true rfl) (lv0 := [(0, .ref a0), (1, .int x1)]) rfl (fun X σ0 => ?_)
  delta m_X2_membersAt
  refine Ex_iload_n dX2_membersAt_0 rfl 1 rfl ?_
  refine Ex_istore_n (lv' := [(0, .ref a0), (1, .int x1), (2, .int x1)]) dX2_membersAt_1 rfl (by decide) [1, 2, 0] rfl ?_
  refine Ex_lv [0, 2] (lv' := [(0, .ref a0), (2, .int x1)]) rfl ?_
  refine Ex_lp (γ := Int32) (pj := 2) (fun v43 => [(0, .ref a0), (2, .int v43)]) (fun v43 => []) (fun j44 hj44 v43 => ?_) x1 rfl rfl
  refine Ex_iload_n dX2_membersAt_2 rfl 1 rfl ?_
  refine Ex_aload_n dX2_membersAt_3 rfl 0 rfl ?_
  refine Ex_gR dX2_membersAt_4 lk_X2_68 rfl (fun x45 => ?_)
  refine Ex_gI dX2_membersAt_7 lk_X2_72 rfl (fun x46 => ?_)
  refine Ex_icmp_le (tgt := 72) dX2_membersAt_10 (by decide) ?_ ?_
  · refine Ex_aload_n dX2_membersAt_72 rfl 0 rfl ?_
    refine Ex_gR dX2_membersAt_73 lk_X2_68 rfl (fun x47 => ?_)
    refine Ex_gR dX2_membersAt_76 lk_X2_110 rfl (fun x48 => ?_)
    exact Ex_areturn dX2_membersAt_79 rfl (Or.inl ⟨_, rfl⟩)
  · refine Ex_aload_n dX2_membersAt_13 rfl 0 rfl ?_
    refine Ex_iload_n dX2_membersAt_14 rfl 1 rfl ?_
    refine Ex_bnR (Inv_V (L_X2_entry hG a0 v43) (lw_V q747 q411 q412 q50 q413) oe_2 ⟨rfl, hm_X2_entry⟩ (by decide) (by decide) dX2_membersAt_15 rfl (Nat.le_of_ble_eq_true rfl)) (fun r49 => ?_)
    refine Ex_astore_n (lv' := [(0, .ref a0), (2, .int v43), (3, .ref r49)]) dX2_membersAt_18 rfl (by decide) [1, 2, 0] rfl ?_
    refine Ex_aload_n dX2_membersAt_19 rfl 2 rfl ?_
    refine Ex_gI dX2_membersAt_20 lk_X2_96 rfl (fun x50 => ?_)
    refine Ex_bipush (v := 106) dX2_membersAt_23 (by decide) ?_
    refine Ex_jn (γ := Unit) (pj := 37) (fun v51 => [(3, .ref r49)]) (fun v51 => []) (fun v51 => ?_) (fun j52 hj52 => ?_)
    · refine Ex_nO (ci := 2) (q := qcl 2) dX2_membersAt_37 rfl q979 q156 q51 (fun a53 => ?_)
      refine Ex_dup rfl dX2_membersAt_40 ?_
      refine Ex_aload_n dX2_membersAt_41 rfl 0 rfl ?_
      refine Ex_gI dX2_membersAt_42 lk_X2_96 rfl (fun x54 => ?_)
      refine Ex_bipush (v := 106) dX2_membersAt_45 (by decide) ?_
      refine Ex_jn (γ := Int32 × Nat × Nat) (pj := 58) (fun v55 => [(3, .ref r49)]) (fun v55 => [.int v55.1, .ref v55.2.1, .ref v55.2.2]) (fun v55 => ?_) (fun j56 hj56 => ?_)
      · refine Ex_aload_n dX2_membersAt_58 rfl 0 rfl ?_
        refine Ex_gI dX2_membersAt_59 lk_X2_104 rfl (fun x57 => ?_)
        refine Ex_bnU (Inv_I (L_X3_init hG v55.2.1 v55.1 x57) q51 q980 q158 q159 rfl hm_X3_init (by decide) (by decide) dX2_membersAt_62 rfl (Nat.le_of_ble_eq_true rfl)) (fun _ => ?_)
        exact Ex_areturn dX2_membersAt_65 rfl (Or.inl ⟨_, rfl⟩)
      · refine Ex_icmp_ne (tgt := 57) dX2_membersAt_47 (by decide) ?_ ?_
        · refine Ex_iconst (v := 0) dX2_membersAt_57 (by decide) ?_
          exact hj56 (0, a53, a53)
        · refine Ex_aload_n dX2_membersAt_50 rfl 0 rfl ?_
          refine Ex_gI dX2_membersAt_51 lk_X2_101 rfl (fun x58 => ?_)
          refine Ex_goto (tgt := 58) dX2_membersAt_54 (by decide) ?_
          exact hj56 (x58, a53, a53)
    · refine Ex_icmp_eq (tgt := 37) dX2_membersAt_25 (by decide) ?_ ?_
      · refine Ex_lv [2] (lv' := [(3, .ref r49)]) rfl ?_
        exact hj52 ()
      · refine Ex_aload_n dX2_membersAt_28 rfl 2 rfl ?_
        refine Ex_gI dX2_membersAt_29 lk_X2_96 rfl (fun x59 => ?_)
        refine Ex_bipush (v := 110) dX2_membersAt_32 (by decide) ?_
        refine Ex_icmp_ne (tgt := 66) dX2_membersAt_34 (by decide) ?_ ?_
        · refine Ex_iinc (j := 1) (lv' := [(0, .ref a0), (2, .int (v43 + (-1))), (3, .ref r49)]) dX2_membersAt_66 rfl rfl (by decide) [1, 0, 2] rfl ?_
          refine Ex_goto (tgt := 2) dX2_membersAt_69 (by decide) ?_
          refine Ex_lv [0, 1] (lv' := [(0, .ref a0), (2, .int (v43 + (-1)))]) rfl ?_
          exact hj44 (v43 + (-1))
        · refine Ex_lv [2] (lv' := [(3, .ref r49)]) rfl ?_
          exact hj52 ()
-- QuorumAlmanac$Snapshot.<init>(IILQuorumAlmanac$Members;LQuorumAlmanac$Store;)V
def m_X5_init (a0 : Nat) (x1 : Int32) (x2 : Int32) (a3 : Nat) (a4 : Nat) : Ms Unit :=
  pV [5] 20 a0 (.int x1) <|
  pV [5] 21 a0 (.int x2) <|
  pV [5] 119 a0 (.ref a3) <|
  pV [5] 120 a0 (.ref a4) <|
  rt ()
theorem hm_X5_init : (yX5_init.cls ≠ "java/lang/invoke/MethodHandle" ∧ yX5_init.cls ≠ "java/lang/invoke/VarHandle" ∧ (parseMethodDescriptor yX5_init.desc).map (fun d => d.parameters.length) = some 4) := by decide +kernel
set_option maxHeartbeats 4000000 in
set_option maxRecDepth 100000 in
theorem L_X5_init {G : GT} (hG : GOK G) (a0 : Nat) (x1 : Int32) (x2 : Int32) (a3 : Nat) (a4 : Nat) : Cal G yX5_init (ws_ yX5_init cX5_init 5 (Option.none : Option Jvm.ClassFile.FieldType)) 2 60 [.ref a0, .int x1, .int x2, .ref a3, .ref a4] rU (m_X5_init a0 x1 x2 a3 a4) := by
  refine Cal_of hG (by decide +kernel) (Nat.le_of_ble_eq_true rfl) (lv0 := [(0, .ref a0), (1, .int x1), (2, .int x2), (3, .ref a3), (4, .ref a4)]) rfl (fun X σ0 => ?_)
  delta m_X5_init
  refine Ex_aload_n dX5_init_0 rfl 0 rfl ?_
  refine Ex_objInit dX5_init_1 q202 q103 q104 (by decide) (Nat.le_of_ble_eq_true rfl) ?_
  refine Ex_aload_n dX5_init_4 rfl 0 rfl ?_
  refine Ex_iload_n dX5_init_5 rfl 1 rfl ?_
  refine Ex_pVF dX5_init_6 lkf_X5_7 rfl rfl rfl rfl rfl rfl ?_
  refine Ex_aload_n dX5_init_9 rfl 0 rfl ?_
  refine Ex_iload_n dX5_init_10 rfl 2 rfl ?_
  refine Ex_pVF dX5_init_11 lkf_X5_13 rfl rfl rfl rfl rfl rfl ?_
  refine Ex_aload_n dX5_init_14 rfl 0 rfl ?_
  refine Ex_aload_n dX5_init_15 rfl 3 rfl ?_
  refine Ex_pVF dX5_init_16 lkf_X5_16 rfl rfl rfl rfl rfl rfl ?_
  refine Ex_aload_n dX5_init_19 rfl 0 rfl ?_
  refine Ex_aload dX5_init_20 4 rfl ?_
  refine Ex_pVF dX5_init_22 lkf_X5_20 rfl rfl rfl rfl rfl rfl ?_
  exact Ex_vreturn dX5_init_25 rfl
-- QuorumAlmanac$Node.compact()I
def m_X2_compact (a0 : Nat) : Ms Int32 :=
  gI [2] 13 a0 fun x56 =>
  gR [2] 108 a0 fun x57 =>
  gI [5] 20 x57 fun x58 =>
  nO 5 4 dfl fun a59 =>
  gI [2] 13 a0 fun x60 =>
  gI [2] 13 a0 fun x61 =>
  bn (ko [2] a0 (m_X2_termAt a0 x61)) fun r62 =>
  gI [2] 13 a0 fun x63 =>
  bn (ko [2] a0 (m_X2_membersAt a0 x63)) fun r64 =>
  gR [2] 110 a0 fun x65 =>
  bn (ko [4] x65 (m_X4_copy x65)) fun r66 =>
  bn (m_X5_init a59 x60 r62 r64 r66) fun _ =>
  nO 22 3 dfl fun a67 =>
  bn (m_J2_init a67) fun _ =>
  gI [2] 13 a0 fun x68 =>
  lp (fun j70 (v69 : Int32) =>
      bn (ko [2] a0 (m_X2_last a0)) fun r71 =>
      if r71 < v69 then
        pV [2] 109 a0 (.ref a67) <|
        pV [2] 108 a0 (.ref a59) <|
        gI [2] 12 a0 fun x72 =>
        gI [5] 20 a59 fun x73 =>
        pV [2] 12 a0 (.int (iMax x72 x73)) <|
        rt (x56 - x58)
      else
        bn (ko [2] a0 (m_X2_entry a0 v69)) fun r74 =>
        bn (ko [22] a67 (m_J2_add a67 r74)) fun r75 =>
        j70 (v69 + 1))
    (x68 + 1)
theorem hm_X2_compact : (yX2_compact.cls ≠ "java/lang/invoke/MethodHandle" ∧ yX2_compact.cls ≠ "java/lang/invoke/VarHandle" ∧ (parseMethodDescriptor yX2_compact.desc).map (fun d => d.parameters.length) = some 0) := by decide +kernel
set_option maxHeartbeats 4000000 in
set_option maxRecDepth 100000 in
theorem L_X2_compact {G : GT} (hG : GOK G) (a0 : Nat) : Cal G yX2_compact (ws_ yX2_compact cX2_compact 5 (Option.some Jvm.ClassFile.FieldType.int)) 8 191 [.ref a0] rI (m_X2_compact a0) := by
  refine Cal_of hG (by decide +kernel) (Nat.le_of_ble_eq_true rfl) (lv0 := [(0, .ref a0)]) rfl (fun X σ0 => ?_)
  delta m_X2_compact
  refine Ex_aload_n dX2_compact_0 rfl 0 rfl ?_
  refine Ex_gI dX2_compact_1 lk_X2_114 rfl (fun x56 => ?_)
  refine Ex_aload_n dX2_compact_4 rfl 0 rfl ?_
  refine Ex_gR dX2_compact_5 lk_X2_68 rfl (fun x57 => ?_)
  refine Ex_gI dX2_compact_8 lk_X2_72 rfl (fun x58 => ?_)
  refine Ex_isub dX2_compact_11 ?_
  refine Ex_istore_n (lv' := [(0, .ref a0), (1, .int (x56 - x58))]) dX2_compact_12 rfl (by decide) [1, 0] rfl ?_
  refine Ex_nO (ci := 4) (q := qcl 4) dX2_compact_13 rfl q197 q198 q53 (fun a59 => ?_)
  refine Ex_dup rfl dX2_compact_16 ?_
  refine Ex_aload_n dX2_compact_17 rfl 0 rfl ?_
  refine Ex_gI dX2_compact_18 lk_X2_114 rfl (fun x60 => ?_)
  refine Ex_aload_n dX2_compact_21 rfl 0 rfl ?_
  refine Ex_aload_n dX2_compact_22 rfl 0 rfl ?_
  refine Ex_gI dX2_compact_23 lk_X2_114 rfl (fun x61 => ?_)
  refine Ex_bnI (Inv_V (L_X2_termAt hG a0 x61) (lw_V q1096 q744 q745 q50 q746) oe_2 ⟨rfl, hm_X2_termAt⟩ (by decide) (by decide) dX2_compact_26 rfl (Nat.le_of_ble_eq_true rfl)) (fun r62 => ?_)
  refine Ex_aload_n dX2_compact_29 rfl 0 rfl ?_
  refine Ex_aload_n dX2_compact_30 rfl 0 rfl ?_
  refine Ex_gI dX2_compact_31 lk_X2_114 rfl (fun x63 => ?_)
  refine Ex_bnR (Inv_V (L_X2_membersAt hG a0 x63) (lw_V q1389 q1391 qs24 q50 q1392) oe_2 ⟨rfl, hm_X2_membersAt⟩ (by decide) (by decide) dX2_compact_34 rfl (Nat.le_of_ble_eq_true rfl)) (fun r64 => ?_)
  refine Ex_aload_n dX2_compact_37 rfl 0 rfl ?_
  refine Ex_gR dX2_compact_38 lk_X2_40 rfl (fun x65 => ?_)
  refine Ex_bnR (Inv_V (L_X4_copy hG x65) (lw_V q1360 q1361 q1362 q52 q1363) oe_4 ⟨rfl, hm_X4_copy⟩ (by decide) (by decide) dX2_compact_41 rfl (Nat.le_of_ble_eq_true rfl)) (fun r66 => ?_)
  refine Ex_bnU (Inv_I (L_X5_init hG a59 x60 r62 r64 r66) q53 q199 q200 q201 rfl hm_X5_init (by decide) (by decide) dX2_compact_44 rfl (Nat.le_of_ble_eq_true rfl)) (fun _ => ?_)
  refine Ex_astore_n (lv' := [(0, .ref a0), (1, .int (x56 - x58)), (2, .ref a59)]) dX2_compact_47 rfl (by decide) [1, 2, 0] rfl ?_
  refine Ex_nO (ci := 21) (q := qcl 21) dX2_compact_48 rfl q174 q120 q48 (fun a67 => ?_)
  refine Ex_dup rfl dX2_compact_51 ?_
  refine Ex_bnU (Inv_I (L_J2_init hG a67) q48 q175 q122 q123 rfl hm_J2_init (by decide) (by decide) dX2_compact_52 rfl (Nat.le_of_ble_eq_true rfl)) (fun _ => ?_)
  refine Ex_astore_n (lv' := [(0, .ref a0), (1, .int (x56 - x58)), (2, .ref a59), (3, .ref a67)]) dX2_compact_55 rfl (by decide) [1, 2, 3, 0] rfl ?_
  refine Ex_aload_n dX2_compact_56 rfl 0 rfl ?_
  refine Ex_gI dX2_compact_57 lk_X2_114 rfl (fun x68 => ?_)
  refine Ex_iconst (v := 1) dX2_compact_60 (by decide) ?_
  refine Ex_iadd dX2_compact_61 ?_
  refine Ex_istore (lv' := [(0, .ref a0), (1, .int (x56 - x58)), (2, .ref a59), (3, .ref a67), (4, .int (x68 + 1))]) dX2_compact_62 (by decide) [1, 2, 3, 4, 0] rfl ?_
  refine Ex_lp (γ := Int32) (pj := 64) (fun v69 => [(0, .ref a0), (1, .int (x56 - x58)), (2, .ref a59), (3, .ref a67), (4, .int v69)]) (fun v69 => []) (fun j70 hj70 v69 => ?_) (x68 + 1) rfl rfl
  refine Ex_iload dX2_compact_64 4 rfl ?_
  refine Ex_aload_n dX2_compact_66 rfl 0 rfl ?_
  refine Ex_bnI (Inv_V (L_X2_last hG a0) (lw_V q978 q108 q109 q50 q110) oe_2 ⟨rfl, hm_X2_last⟩ (by decide) (by decide) dX2_compact_67 rfl (Nat.le_of_ble_eq_true rfl)) (fun r71 => ?_)
  refine Ex_icmp_gt (tgt := 90) dX2_compact_70 (by decide) ?_ ?_
  · refine Ex_aload_n dX2_compact_90 rfl 0 rfl ?_
    refine Ex_aload_n dX2_compact_91 rfl 3 rfl ?_
    refine Ex_pV dX2_compact_92 lk_X2_33 rfl rfl rfl rfl ?_
    refine Ex_aload_n dX2_compact_95 rfl 0 rfl ?_
    refine Ex_aload_n dX2_compact_96 rfl 2 rfl ?_
    refine Ex_pV dX2_compact_97 lk_X2_68 rfl rfl rfl rfl ?_
    refine Ex_aload_n dX2_compact_100 rfl 0 rfl ?_
    refine Ex_aload_n dX2_compact_101 rfl 0 rfl ?_
    refine Ex_gI dX2_compact_102 lk_X2_315 rfl (fun x72 => ?_)
    refine Ex_aload_n dX2_compact_105 rfl 2 rfl ?_
    refine Ex_gI dX2_compact_106 lk_X2_72 rfl (fun x73 => ?_)
    refine Ex_mmax dX2_compact_109 q1377 q152 q49 q153 (by decide) (Nat.le_of_ble_eq_true rfl) ?_
    refine Ex_pV dX2_compact_112 lk_X2_315 rfl rfl rfl rfl ?_
    refine Ex_iload_n dX2_compact_115 rfl 1 rfl ?_
    exact Ex_ireturn dX2_compact_116 rfl
  · refine Ex_aload_n dX2_compact_73 rfl 3 rfl ?_
    refine Ex_aload_n dX2_compact_74 rfl 0 rfl ?_
    refine Ex_iload dX2_compact_75 4 rfl ?_
    refine Ex_bnR (Inv_V (L_X2_entry hG a0 v69) (lw_V q747 q411 q412 q50 q413) oe_2 ⟨rfl, hm_X2_entry⟩ (by decide) (by decide) dX2_compact_77 rfl (Nat.le_of_ble_eq_true rfl)) (fun r74 => ?_)
    refine Ex_bnI (Inv_V (L_J2_add hG a67 r74) (lw_V q934 q935 q936 q48 q937) oe_22 ⟨rfl, hm_J2_add⟩ (by decide) (by decide) dX2_compact_80 rfl (Nat.le_of_ble_eq_true rfl)) (fun r75 => ?_)
    refine Ex_pop rfl dX2_compact_83 ?_
    refine Ex_iinc (j := 4) (lv' := [(0, .ref a0), (1, .int (x56 - x58)), (2, .ref a59), (3, .ref a67), (4, .int (v69 + 1))]) dX2_compact_84 rfl rfl (by decide) [1, 2, 3, 4, 0] rfl ?_
    refine Ex_goto (tgt := 64) dX2_compact_87 (by decide) ?_
    exact hj70 (v69 + 1)
-- QuorumAlmanac.compact(I)I
def m_X1_compact (a0 : Nat) (x1 : Int32) : Ms Int32 :=
  bd (ko [1] a0 (m_X1_running a0 x1)) fun r30 =>
  gI [2] 13 r30 fun x31 =>
  gR [2] 108 r30 fun x32 =>
  gI [5] 20 x32 fun x33 =>
  jn (fun (v34 : Int32) =>
      bd (m_X1_requireState v34) fun _ =>
      bn (ko [2] r30 (m_X2_compact r30)) fun r36 =>
      rt r36)
    fun j35 =>
    if x31 ≤ x33 then
      j35 0
    else
      j35 1
theorem hm_X1_compact : (yX1_compact.cls ≠ "java/lang/invoke/MethodHandle" ∧ yX1_compact.cls ≠ "java/lang/invoke/VarHandle" ∧ (parseMethodDescriptor yX1_compact.desc).map (fun d => d.parameters.length) = some 1) := by decide +kernel
set_option maxHeartbeats 4000000 in
set_option maxRecDepth 100000 in
theorem L_X1_compact {G : GT} (hG : GOK G) (a0 : Nat) (x1 : Int32) : Cal G yX1_compact (ws_ yX1_compact cX1_compact 3 (Option.some Jvm.ClassFile.FieldType.int)) 9 215 [.ref a0, .int x1] rI (m_X1_compact a0 x1) := by
  refine Cal_of hG (by decide +kernel) (Nat.le_of_ble_eq_true rfl) (lv0 := [(0, .ref a0), (1, .int x1)]) rfl (fun X σ0 => ?_)
  delta m_X1_compact
  refine Ex_aload_n dX1_compact_0 rfl 0 rfl ?_
  refine Ex_iload_n dX1_compact_1 rfl 1 rfl ?_
  refine Ex_bdR (Inv_V (L_X1_running hG a0 x1) (lw_V q870 q872 qs4 q45 q873) oe_1 ⟨rfl, hm_X1_running⟩ (by decide) (by decide) dX1_compact_2 rfl (Nat.le_of_ble_eq_true rfl)) (fun _ hz => nomatch hz) (fun r30 => ?_)
  refine Ex_astore_n (lv' := [(0, .ref a0), (1, .int x1), (2, .ref r30)]) dX1_compact_5 rfl (by decide) [1, 2, 0] rfl ?_
  refine Ex_aload_n dX1_compact_6 rfl 2 rfl ?_
  refine Ex_gI dX1_compact_7 lk_X1_137 rfl (fun x31 => ?_)
  refine Ex_aload_n dX1_compact_10 rfl 2 rfl ?_
  refine Ex_gR dX1_compact_11 lk_X1_140 rfl (fun x32 => ?_)
  refine Ex_gI dX1_compact_14 lk_X1_144 rfl (fun x33 => ?_)
  refine Ex_jn (γ := Int32) (pj := 25) (fun v34 => [(2, .ref r30)]) (fun v34 => [.int v34]) (fun v34 => ?_) (fun j35 hj35 => ?_)
  · refine Ex_bdU (Inv_S (L_X1_requireState hG v34) (lw_S q905 q906 q45 q907) hm_X1_requireState (by decide) (by decide) dX1_compact_25 rfl (Nat.le_of_ble_eq_true rfl)) (fun _ hz => nomatch hz) (fun _ => ?_)
    refine Ex_aload_n dX1_compact_28 rfl 0 rfl ?_
    refine Ex_bnI (Inv_V (L_X2_compact hG r30) (lw_V q1385 q1386 q1387 q50 q1388) oe_2 ⟨rfl, hm_X2_compact⟩ (by decide) (by decide) dX1_compact_29 rfl (Nat.le_of_ble_eq_true rfl)) (fun r36 => ?_)
    exact Ex_ireturn dX1_compact_32 rfl
  · refine Ex_icmp_le (tgt := 24) dX1_compact_17 (by decide) ?_ ?_
    · refine Ex_iconst (v := 0) dX1_compact_24 (by decide) ?_
      refine Ex_lv [2] (lv' := [(2, .ref r30)]) rfl ?_
      exact hj35 0
    · refine Ex_iconst (v := 1) dX1_compact_20 (by decide) ?_
      refine Ex_goto (tgt := 25) dX1_compact_21 (by decide) ?_
      refine Ex_lv [2] (lv' := [(2, .ref r30)]) rfl ?_
      exact hj35 1
-- QuorumAlmanacLaw.compact(LQuorumAlmanac;I[J)I
def m_X0_compact (a0 : Nat) (x1 : Int32) (a2 : Nat) : Ms Int32 :=
  tr (ko [1] a0 (m_X1_compact a0 x1)) (fun r22 =>
    sV 35 a2 0 (.long r22.toInt64) <|
    rt 0) fun e q23 =>
    if e = 0 then
      rt 1
    else 
      if e = 1 then
        rt 2
      else fl
theorem hm_X0_compact : (yX0_compact.cls ≠ "java/lang/invoke/MethodHandle" ∧ yX0_compact.cls ≠ "java/lang/invoke/VarHandle" ∧ (parseMethodDescriptor yX0_compact.desc).map (fun d => d.parameters.length) = some 3) := by decide +kernel
set_option maxHeartbeats 4000000 in
set_option maxRecDepth 100000 in
theorem L_X0_compact {G : GT} (hG : GOK G) (a0 : Nat) (x1 : Int32) (a2 : Nat) : Cal G yX0_compact (wsW_ yX0_compact cX0_compact 4 (Option.some Jvm.ClassFile.FieldType.int) [(0, 9, 12, 13), (0, 9, 15, 15)]) 10 237 [.ref a0, .int x1, .ref a2] rI (m_X0_compact a0 x1 a2) := by
  refine Cal_ofH hG (by decide +kernel) (Nat.le_of_ble_eq_true rfl) (tb := [{ startPc := 0, endPc := 9, handlerPc := 12, catchType := 13 }, { startPc := 0, endPc := 9, handlerPc := 15, catchType := 15 }]) rfl (lv0 := [(0, .ref a0), (1, .int x1), (2, .ref a2)]) rfl (fun X σ0 => ?_)
  delta m_X0_compact
  refine Ex_aload_n dX0_compact_0 rfl 2 rfl ?_
  refine Ex_iconst (v := 0) dX0_compact_1 (by decide) ?_
  refine Ex_aload_n dX0_compact_2 rfl 0 rfl ?_
  refine Ex_iload_n dX0_compact_3 rfl 1 rfl ?_
  refine Ex_trI (Inv_V (L_X1_compact hG a0 x1) (lw_V q1381 q1382 q1383 q45 q1384) oe_1 ⟨rfl, hm_X1_compact⟩ (by decide) (by decide) dX0_compact_4 rfl (Nat.le_of_ble_eq_true rfl)) (fun r22 => ?_) (fun e q23 => ?_)
  · refine Ex_i2l dX0_compact_7 ?_
    refine Ex_last dX0_compact_8 ?_
    refine Ex_goto (tgt := 18) dX0_compact_9 (by decide) ?_
    refine Ex_iconst (v := 0) dX0_compact_18 (by decide) ?_
    exact Ex_ireturn dX0_compact_19 rfl
  · refine ExT_if (e0 := 0) ?_ ?_
    · refine ExT_catch (name := "java/lang/IndexOutOfBoundsException") [] { startPc := 0, endPc := 9, handlerPc := 12, catchType := 13 } [{ startPc := 0, endPc := 9, handlerPc := 15, catchType := 15 }] rfl (fun _ hz => nomatch hz) rfl (by decide) q784 q886 ?_
      refine Ex_astore_n (lv' := [(0, .ref a0), (1, .int x1), (2, .ref a2), (3, .ref q23)]) dX0_compact_12 rfl (by decide) [1, 2, 3, 0] rfl ?_
      refine Ex_iconst (v := 1) dX0_compact_13 (by decide) ?_
      exact Ex_ireturn dX0_compact_14 rfl
    · refine ExT_if (e0 := 1) ?_ ?_
      · refine ExT_catch (name := "java/lang/IllegalStateException") [{ startPc := 0, endPc := 9, handlerPc := 12, catchType := 13 }] { startPc := 0, endPc := 9, handlerPc := 15, catchType := 15 } [] rfl (List.forall_mem_cons.mpr ⟨Or.inr ⟨by decide, "java/lang/IndexOutOfBoundsException", q784, nc_1_0⟩, fun _ hz => nomatch hz⟩) rfl (by decide) q865 q910 ?_
        refine Ex_astore_n (lv' := [(0, .ref a0), (1, .int x1), (2, .ref a2), (3, .ref q23)]) dX0_compact_15 rfl (by decide) [1, 2, 3, 0] rfl ?_
        refine Ex_iconst (v := 2) dX0_compact_16 (by decide) ?_
        exact Ex_ireturn dX0_compact_17 rfl
      · exact ExT_fl
-- QuorumAlmanac.role(I)C
def m_X1_role (a0 : Nat) (x1 : Int32) : Ms Int32 :=
  bd (ko [1] a0 (m_X1_node a0 x1)) fun r26 =>
  gI [2] 5 r26 fun x27 =>
  jn (fun (v28 : Int32) =>
      ck (0 ≤ Int32.toInt v28 ∧ Int32.toInt v28 < 65536) <|
      rt v28)
    fun j29 =>
    if x27 = 0 then
      j29 100
    else
      gI [2] 6 r26 fun x30 =>
      j29 x30
theorem hm_X1_role : (yX1_role.cls ≠ "java/lang/invoke/MethodHandle" ∧ yX1_role.cls ≠ "java/lang/invoke/VarHandle" ∧ (parseMethodDescriptor yX1_role.desc).map (fun d => d.parameters.length) = some 1) := by decide +kernel
set_option maxHeartbeats 4000000 in
set_option maxRecDepth 100000 in
theorem L_X1_role {G : GT} (hG : GOK G) (a0 : Nat) (x1 : Int32) : Cal G yX1_role (ws_ yX1_role cX1_role 3 (Option.some Jvm.ClassFile.FieldType.char)) 8 130 [.ref a0, .int x1] rI (m_X1_role a0 x1) := by
  refine Cal_of hG (by decide +kernel) (Nat.le_of_ble_eq_true rfl) (lv0 := [(0, .ref a0), (1, .int x1)]) rfl (fun X σ0 => ?_)
  delta m_X1_role
  refine Ex_aload_n dX1_role_0 rfl 0 rfl ?_
  refine Ex_iload_n dX1_role_1 rfl 1 rfl ?_
  refine Ex_bdR (Inv_V (L_X1_node hG a0 x1) (lw_V q874 q876 qs5 q45 q877) oe_1 ⟨rfl, hm_X1_node⟩ (by decide) (by decide) dX1_role_2 rfl (Nat.le_of_ble_eq_true rfl)) (fun _ hz => nomatch hz) (fun r26 => ?_)
  refine Ex_astore_n (lv' := [(0, .ref a0), (1, .int x1), (2, .ref r26)]) dX1_role_5 rfl (by decide) [1, 2, 0] rfl ?_
  refine Ex_aload_n dX1_role_6 rfl 2 rfl ?_
  refine Ex_gI dX1_role_7 lk_X1_113 rfl (fun x27 => ?_)
  refine Ex_jn (γ := Int32) (pj := 22) (fun v28 => []) (fun v28 => [.int v28]) (fun v28 => ?_) (fun j29 hj29 => ?_)
  · refine Ex_ck (fun hz => ?_)
    exact Ex_zreturn dX1_role_22 rfl (cok_n hz)
  · refine Ex_if_eq (tgt := 20) dX1_role_10 (by decide) ?_ ?_
    · refine Ex_bipush (v := 100) dX1_role_20 (by decide) ?_
      refine Ex_lv [] (lv' := []) rfl ?_
      exact hj29 100
    · refine Ex_aload_n dX1_role_13 rfl 2 rfl ?_
      refine Ex_gI dX1_role_14 lk_X1_152 rfl (fun x30 => ?_)
      refine Ex_goto (tgt := 22) dX1_role_17 (by decide) ?_
      refine Ex_lv [] (lv' := []) rfl ?_
      exact hj29 x30
-- QuorumAlmanacLaw.role(LQuorumAlmanac;I[J)I
def m_X0_role (a0 : Nat) (x1 : Int32) (a2 : Nat) : Ms Int32 :=
  tr (ko [1] a0 (m_X1_role a0 x1)) (fun r22 =>
    sV 35 a2 0 (.long r22.toInt64) <|
    rt 0) fun e q23 =>
    if e = 0 then
      rt 1
    else fl
theorem hm_X0_role : (yX0_role.cls ≠ "java/lang/invoke/MethodHandle" ∧ yX0_role.cls ≠ "java/lang/invoke/VarHandle" ∧ (parseMethodDescriptor yX0_role.desc).map (fun d => d.parameters.length) = some 3) := by decide +kernel
set_option maxHeartbeats 4000000 in
set_option maxRecDepth 100000 in
theorem L_X0_role {G : GT} (hG : GOK G) (a0 : Nat) (x1 : Int32) (a2 : Nat) : Cal G yX0_role (wsW_ yX0_role cX0_role 4 (Option.some Jvm.ClassFile.FieldType.int) [(0, 9, 12, 13)]) 9 152 [.ref a0, .int x1, .ref a2] rI (m_X0_role a0 x1 a2) := by
  refine Cal_ofH hG (by decide +kernel) (Nat.le_of_ble_eq_true rfl) (tb := [{ startPc := 0, endPc := 9, handlerPc := 12, catchType := 13 }]) rfl (lv0 := [(0, .ref a0), (1, .int x1), (2, .ref a2)]) rfl (fun X σ0 => ?_)
  delta m_X0_role
  refine Ex_aload_n dX0_role_0 rfl 2 rfl ?_
  refine Ex_iconst (v := 0) dX0_role_1 (by decide) ?_
  refine Ex_aload_n dX0_role_2 rfl 0 rfl ?_
  refine Ex_iload_n dX0_role_3 rfl 1 rfl ?_
  refine Ex_trI (Inv_V (L_X1_role hG a0 x1) (lw_V q1396 q1397 q1398 q45 q1399) oe_1 ⟨rfl, hm_X1_role⟩ (by decide) (by decide) dX0_role_4 rfl (Nat.le_of_ble_eq_true rfl)) (fun r22 => ?_) (fun e q23 => ?_)
  · refine Ex_i2l dX0_role_7 ?_
    refine Ex_last dX0_role_8 ?_
    refine Ex_goto (tgt := 15) dX0_role_9 (by decide) ?_
    refine Ex_iconst (v := 0) dX0_role_15 (by decide) ?_
    exact Ex_ireturn dX0_role_16 rfl
  · refine ExT_if (e0 := 0) ?_ ?_
    · refine ExT_catch (name := "java/lang/IndexOutOfBoundsException") [] { startPc := 0, endPc := 9, handlerPc := 12, catchType := 13 } [] rfl (fun _ hz => nomatch hz) rfl (by decide) q784 q886 ?_
      refine Ex_astore_n (lv' := [(0, .ref a0), (1, .int x1), (2, .ref a2), (3, .ref q23)]) dX0_role_12 rfl (by decide) [1, 2, 3, 0] rfl ?_
      refine Ex_iconst (v := 1) dX0_role_13 (by decide) ?_
      exact Ex_ireturn dX0_role_14 rfl
    · exact ExT_fl
-- QuorumAlmanac.lambda$new$0(LQuorumAlmanac$Node;)I
def m_X1_lambda_new_0 (a0 : Nat) : Ms Int32 :=
  bn (ko [2] a0 (m_X2_last a0)) fun r22 =>
  rt r22
theorem hm_X1_lambda_new_0 : (yX1_lambda_new_0.cls ≠ "java/lang/invoke/MethodHandle" ∧ yX1_lambda_new_0.cls ≠ "java/lang/invoke/VarHandle" ∧ (parseMethodDescriptor yX1_lambda_new_0.desc).map (fun d => d.parameters.length) = some 1) := by decide +kernel
set_option maxHeartbeats 4000000 in
set_option maxRecDepth 100000 in
theorem L_X1_lambda_new_0 {G : GT} (hG : GOK G) (a0 : Nat) : Cal G yX1_lambda_new_0 (ws_ yX1_lambda_new_0 cX1_lambda_new_0 1 (Option.some Jvm.ClassFile.FieldType.int)) 4 100 [.ref a0] rI (m_X1_lambda_new_0 a0) := by
  refine Cal_of hG (by decide +kernel) (Nat.le_of_ble_eq_true rfl) (lv0 := [(0, .ref a0)]) rfl (fun X σ0 => ?_)
  delta m_X1_lambda_new_0
  refine Ex_aload_n dX1_lambda_new_0_0 rfl 0 rfl ?_
  refine Ex_bnI (Inv_V (L_X2_last hG a0) (lw_V q107 q108 q109 q50 q110) oe_2 ⟨rfl, hm_X2_last⟩ (by decide) (by decide) dX1_lambda_new_0_1 rfl (Nat.le_of_ble_eq_true rfl)) (fun r22 => ?_)
  exact Ex_ireturn dX1_lambda_new_0_4 rfl
-- QuorumAlmanac.lambda$new$1(LQuorumAlmanac$Node;)I
def m_X1_lambda_new_1 (a0 : Nat) : Ms Int32 :=
  gI [2] 8 a0 fun x22 =>
  rt x22
theorem hm_X1_lambda_new_1 : (yX1_lambda_new_1.cls ≠ "java/lang/invoke/MethodHandle" ∧ yX1_lambda_new_1.cls ≠ "java/lang/invoke/VarHandle" ∧ (parseMethodDescriptor yX1_lambda_new_1.desc).map (fun d => d.parameters.length) = some 1) := by decide +kernel
set_option maxHeartbeats 4000000 in
set_option maxRecDepth 100000 in
theorem L_X1_lambda_new_1 {G : GT} (hG : GOK G) (a0 : Nat) : Cal G yX1_lambda_new_1 (ws_ yX1_lambda_new_1 cX1_lambda_new_1 1 (Option.some Jvm.ClassFile.FieldType.int)) 2 60 [.ref a0] rI (m_X1_lambda_new_1 a0) := by
  refine Cal_of hG (by decide +kernel) (Nat.le_of_ble_eq_true rfl) (lv0 := [(0, .ref a0)]) rfl (fun X σ0 => ?_)
  delta m_X1_lambda_new_1
  refine Ex_aload_n dX1_lambda_new_1_0 rfl 0 rfl ?_
  refine Ex_gI dX1_lambda_new_1_1 lk_X1_253 rfl (fun x22 => ?_)
  exact Ex_ireturn dX1_lambda_new_1_4 rfl
-- QuorumAlmanac.term(I)I
def m_X1_term (a0 : Nat) (x1 : Int32) : Ms Int32 :=
  gR [1] 103 a0 fun x26 =>
  bd (ko [1] a0 (m_X1_node a0 x1)) fun r27 =>
  bn (mof m_X1_lambda_new_0 m_X1_lambda_new_1 x26 r27) fun r28 =>
  rt r28
theorem hm_X1_term : (yX1_term.cls ≠ "java/lang/invoke/MethodHandle" ∧ yX1_term.cls ≠ "java/lang/invoke/VarHandle" ∧ (parseMethodDescriptor yX1_term.desc).map (fun d => d.parameters.length) = some 1) := by decide +kernel
set_option maxHeartbeats 4000000 in
set_option maxRecDepth 100000 in
theorem L_X1_term {G : GT} (hG : GOK G) (a0 : Nat) (x1 : Int32) : Cal G yX1_term (ws_ yX1_term cX1_term 2 (Option.some Jvm.ClassFile.FieldType.int)) 8 141 [.ref a0, .int x1] rI (m_X1_term a0 x1) := by
  refine Cal_of hG (by decide +kernel) (Nat.le_of_ble_eq_true rfl) (lv0 := [(0, .ref a0), (1, .int x1)]) rfl (fun X σ0 => ?_)
  delta m_X1_term
  refine Ex_aload_n dX1_term_0 rfl 0 rfl ?_
  refine Ex_gR dX1_term_1 lk_X1_30 rfl (fun x26 => ?_)
  refine Ex_aload_n dX1_term_4 rfl 0 rfl ?_
  refine Ex_iload_n dX1_term_5 rfl 1 rfl ?_
  refine Ex_bdR (Inv_V (L_X1_node hG a0 x1) (lw_V q874 q876 qs5 q45 q877) oe_1 ⟨rfl, hm_X1_node⟩ (by decide) (by decide) dX1_term_6 rfl (Nat.le_of_ble_eq_true rfl)) (fun _ hz => nomatch hz) (fun r27 => ?_)
  refine Ex_bnI (Inv_of (L_X1_lambda_new_0 hG r27) (L_X1_lambda_new_1 hG r27) rfl rfl q362 q364 q363 q105 q115 q45 q106 q116 (by decide) (by decide) (by decide) (by decide) dX1_term_9 (Nat.le_of_ble_eq_true rfl)) (fun r28 => ?_)
  exact Ex_ireturn dX1_term_14 rfl
-- QuorumAlmanacLaw.term(LQuorumAlmanac;I[J)I
def m_X0_term (a0 : Nat) (x1 : Int32) (a2 : Nat) : Ms Int32 :=
  tr (ko [1] a0 (m_X1_term a0 x1)) (fun r22 =>
    sV 35 a2 0 (.long r22.toInt64) <|
    rt 0) fun e q23 =>
    if e = 0 then
      rt 1
    else fl
theorem hm_X0_term : (yX0_term.cls ≠ "java/lang/invoke/MethodHandle" ∧ yX0_term.cls ≠ "java/lang/invoke/VarHandle" ∧ (parseMethodDescriptor yX0_term.desc).map (fun d => d.parameters.length) = some 3) := by decide +kernel
set_option maxHeartbeats 4000000 in
set_option maxRecDepth 100000 in
theorem L_X0_term {G : GT} (hG : GOK G) (a0 : Nat) (x1 : Int32) (a2 : Nat) : Cal G yX0_term (wsW_ yX0_term cX0_term 4 (Option.some Jvm.ClassFile.FieldType.int) [(0, 9, 12, 13)]) 9 162 [.ref a0, .int x1, .ref a2] rI (m_X0_term a0 x1 a2) := by
  refine Cal_ofH hG (by decide +kernel) (Nat.le_of_ble_eq_true rfl) (tb := [{ startPc := 0, endPc := 9, handlerPc := 12, catchType := 13 }]) rfl (lv0 := [(0, .ref a0), (1, .int x1), (2, .ref a2)]) rfl (fun X σ0 => ?_)
  delta m_X0_term
  refine Ex_aload_n dX0_term_0 rfl 2 rfl ?_
  refine Ex_iconst (v := 0) dX0_term_1 (by decide) ?_
  refine Ex_aload_n dX0_term_2 rfl 0 rfl ?_
  refine Ex_iload_n dX0_term_3 rfl 1 rfl ?_
  refine Ex_trI (Inv_V (L_X1_term hG a0 x1) (lw_V q1403 q1404 q1405 q45 q1406) oe_1 ⟨rfl, hm_X1_term⟩ (by decide) (by decide) dX0_term_4 rfl (Nat.le_of_ble_eq_true rfl)) (fun r22 => ?_) (fun e q23 => ?_)
  · refine Ex_i2l dX0_term_7 ?_
    refine Ex_last dX0_term_8 ?_
    refine Ex_goto (tgt := 15) dX0_term_9 (by decide) ?_
    refine Ex_iconst (v := 0) dX0_term_15 (by decide) ?_
    exact Ex_ireturn dX0_term_16 rfl
  · refine ExT_if (e0 := 0) ?_ ?_
    · refine ExT_catch (name := "java/lang/IndexOutOfBoundsException") [] { startPc := 0, endPc := 9, handlerPc := 12, catchType := 13 } [] rfl (fun _ hz => nomatch hz) rfl (by decide) q784 q886 ?_
      refine Ex_astore_n (lv' := [(0, .ref a0), (1, .int x1), (2, .ref a2), (3, .ref q23)]) dX0_term_12 rfl (by decide) [1, 2, 3, 0] rfl ?_
      refine Ex_iconst (v := 1) dX0_term_13 (by decide) ?_
      exact Ex_ireturn dX0_term_14 rfl
    · exact ExT_fl
-- QuorumAlmanac.requireElement(Z)V
def m_X1_requireElement (x0 : Int32) : Ms Unit :=
  if ¬ x0 = 0 then
    rt ()
  else
    th 3
theorem hm_X1_requireElement : (yX1_requireElement.cls ≠ "java/lang/invoke/MethodHandle" ∧ yX1_requireElement.cls ≠ "java/lang/invoke/VarHandle" ∧ (parseMethodDescriptor yX1_requireElement.desc).map (fun d => d.parameters.length) = some 1) := by decide +kernel
set_option maxHeartbeats 4000000 in
set_option maxRecDepth 100000 in
theorem L_X1_requireElement {G : GT} (hG : GOK G) (x0 : Int32) : Cal G yX1_requireElement (ws_ yX1_requireElement cX1_requireElement 1 (Option.none : Option Jvm.ClassFile.FieldType)) 6 89 [.int x0] rU (m_X1_requireElement x0) := by
  refine Cal_of hG (by decide +kernel) (Nat.le_of_ble_eq_true rfl) (lv0 := [(0, .int x0)]) rfl (fun X σ0 => ?_)
  delta m_X1_requireElement
  refine Ex_iload_n dX1_requireElement_0 rfl 0 rfl ?_
  refine Ex_if_ne (tgt := 12) dX1_requireElement_1 (by decide) ?_ ?_
  · exact Ex_vreturn dX1_requireElement_12 rfl
  · exact Ex_th ["java/lang/RuntimeException", "java/lang/Exception"] (by decide) (by decide) q1418 q78 at_X1_15 dX1_requireElement_4 dX1_requireElement_7 dX1_requireElement_8 dX1_requireElement_11 (fun _ hz => nomatch hz) (by decide) (Nat.le_of_ble_eq_true rfl)
-- QuorumAlmanac.vote(I)I
def m_X1_vote (a0 : Nat) (x1 : Int32) : Ms Int32 :=
  bd (ko [1] a0 (m_X1_node a0 x1)) fun r26 =>
  gI [2] 9 r26 fun x27 =>
  jn (fun (v28 : Int32) =>
      bd (m_X1_requireElement v28) fun _ =>
      gI [2] 9 r26 fun x30 =>
      rt x30)
    fun j29 =>
    if x27 = (-1) then
      j29 0
    else
      j29 1
theorem hm_X1_vote : (yX1_vote.cls ≠ "java/lang/invoke/MethodHandle" ∧ yX1_vote.cls ≠ "java/lang/invoke/VarHandle" ∧ (parseMethodDescriptor yX1_vote.desc).map (fun d => d.parameters.length) = some 1) := by decide +kernel
set_option maxHeartbeats 4000000 in
set_option maxRecDepth 100000 in
theorem L_X1_vote {G : GT} (hG : GOK G) (a0 : Nat) (x1 : Int32) : Cal G yX1_vote (ws_ yX1_vote cX1_vote 3 (Option.some Jvm.ClassFile.FieldType.int)) 8 130 [.ref a0, .int x1] rI (m_X1_vote a0 x1) := by
  refine Cal_of hG (by decide +kernel) (Nat.le_of_ble_eq_true rfl) (lv0 := [(0, .ref a0), (1, .int x1)]) rfl (fun X σ0 => ?_)
  delta m_X1_vote
  refine Ex_aload_n dX1_vote_0 rfl 0 rfl ?_
  refine Ex_iload_n dX1_vote_1 rfl 1 rfl ?_
  refine Ex_bdR (Inv_V (L_X1_node hG a0 x1) (lw_V q874 q876 qs5 q45 q877) oe_1 ⟨rfl, hm_X1_node⟩ (by decide) (by decide) dX1_vote_2 rfl (Nat.le_of_ble_eq_true rfl)) (fun _ hz => nomatch hz) (fun r26 => ?_)
  refine Ex_astore_n (lv' := [(0, .ref a0), (1, .int x1), (2, .ref r26)]) dX1_vote_5 rfl (by decide) [1, 2, 0] rfl ?_
  refine Ex_aload_n dX1_vote_6 rfl 2 rfl ?_
  refine Ex_gI dX1_vote_7 lk_X1_161 rfl (fun x27 => ?_)
  refine Ex_iconst (v := (-1)) dX1_vote_10 (by decide) ?_
  refine Ex_jn (γ := Int32) (pj := 19) (fun v28 => [(2, .ref r26)]) (fun v28 => [.int v28]) (fun v28 => ?_) (fun j29 hj29 => ?_)
  · refine Ex_bdU (Inv_S (L_X1_requireElement hG v28) (lw_S q1415 q1416 q45 q1417) hm_X1_requireElement (by decide) (by decide) dX1_vote_19 rfl (Nat.le_of_ble_eq_true rfl)) (fun _ hz => nomatch hz) (fun _ => ?_)
    refine Ex_aload_n dX1_vote_22 rfl 0 rfl ?_
    refine Ex_gI dX1_vote_23 lk_X1_161 rfl (fun x30 => ?_)
    exact Ex_ireturn dX1_vote_26 rfl
  · refine Ex_icmp_eq (tgt := 18) dX1_vote_11 (by decide) ?_ ?_
    · refine Ex_iconst (v := 0) dX1_vote_18 (by decide) ?_
      refine Ex_lv [2] (lv' := [(2, .ref r26)]) rfl ?_
      exact hj29 0
    · refine Ex_iconst (v := 1) dX1_vote_14 (by decide) ?_
      refine Ex_goto (tgt := 19) dX1_vote_15 (by decide) ?_
      refine Ex_lv [2] (lv' := [(2, .ref r26)]) rfl ?_
      exact hj29 1
-- QuorumAlmanacLaw.vote(LQuorumAlmanac;I[J)I
def m_X0_vote (a0 : Nat) (x1 : Int32) (a2 : Nat) : Ms Int32 :=
  tr (ko [1] a0 (m_X1_vote a0 x1)) (fun r22 =>
    sV 35 a2 0 (.long r22.toInt64) <|
    rt 0) fun e q23 =>
    if e = 0 then
      rt 1
    else 
      if e = 3 then
        rt 2
      else fl
theorem hm_X0_vote : (yX0_vote.cls ≠ "java/lang/invoke/MethodHandle" ∧ yX0_vote.cls ≠ "java/lang/invoke/VarHandle" ∧ (parseMethodDescriptor yX0_vote.desc).map (fun d => d.parameters.length) = some 3) := by decide +kernel
set_option maxHeartbeats 4000000 in
set_option maxRecDepth 100000 in
theorem L_X0_vote {G : GT} (hG : GOK G) (a0 : Nat) (x1 : Int32) (a2 : Nat) : Cal G yX0_vote (wsW_ yX0_vote cX0_vote 4 (Option.some Jvm.ClassFile.FieldType.int) [(0, 9, 12, 13), (0, 9, 15, 39)]) 9 152 [.ref a0, .int x1, .ref a2] rI (m_X0_vote a0 x1 a2) := by
  refine Cal_ofH hG (by decide +kernel) (Nat.le_of_ble_eq_true rfl) (tb := [{ startPc := 0, endPc := 9, handlerPc := 12, catchType := 13 }, { startPc := 0, endPc := 9, handlerPc := 15, catchType := 39 }]) rfl (lv0 := [(0, .ref a0), (1, .int x1), (2, .ref a2)]) rfl (fun X σ0 => ?_)
  delta m_X0_vote
  refine Ex_aload_n dX0_vote_0 rfl 2 rfl ?_
  refine Ex_iconst (v := 0) dX0_vote_1 (by decide) ?_
  refine Ex_aload_n dX0_vote_2 rfl 0 rfl ?_
  refine Ex_iload_n dX0_vote_3 rfl 1 rfl ?_
  refine Ex_trI (Inv_V (L_X1_vote hG a0 x1) (lw_V q1411 q1412 q1413 q45 q1414) oe_1 ⟨rfl, hm_X1_vote⟩ (by decide) (by decide) dX0_vote_4 rfl (Nat.le_of_ble_eq_true rfl)) (fun r22 => ?_) (fun e q23 => ?_)
  · refine Ex_i2l dX0_vote_7 ?_
    refine Ex_last dX0_vote_8 ?_
    refine Ex_goto (tgt := 18) dX0_vote_9 (by decide) ?_
    refine Ex_iconst (v := 0) dX0_vote_18 (by decide) ?_
    exact Ex_ireturn dX0_vote_19 rfl
  · refine ExT_if (e0 := 0) ?_ ?_
    · refine ExT_catch (name := "java/lang/IndexOutOfBoundsException") [] { startPc := 0, endPc := 9, handlerPc := 12, catchType := 13 } [{ startPc := 0, endPc := 9, handlerPc := 15, catchType := 39 }] rfl (fun _ hz => nomatch hz) rfl (by decide) q784 q886 ?_
      refine Ex_astore_n (lv' := [(0, .ref a0), (1, .int x1), (2, .ref a2), (3, .ref q23)]) dX0_vote_12 rfl (by decide) [1, 2, 3, 0] rfl ?_
      refine Ex_iconst (v := 1) dX0_vote_13 (by decide) ?_
      exact Ex_ireturn dX0_vote_14 rfl
    · refine ExT_if (e0 := 3) ?_ ?_
      · refine ExT_catch (name := "java/util/NoSuchElementException") [{ startPc := 0, endPc := 9, handlerPc := 12, catchType := 13 }] { startPc := 0, endPc := 9, handlerPc := 15, catchType := 39 } [] rfl (List.forall_mem_cons.mpr ⟨Or.inr ⟨by decide, "java/lang/IndexOutOfBoundsException", q784, nc_3_0⟩, fun _ hz => nomatch hz⟩) rfl (by decide) q1410 q1196 ?_
        refine Ex_astore_n (lv' := [(0, .ref a0), (1, .int x1), (2, .ref a2), (3, .ref q23)]) dX0_vote_15 rfl (by decide) [1, 2, 3, 0] rfl ?_
        refine Ex_iconst (v := 2) dX0_vote_16 (by decide) ?_
        exact Ex_ireturn dX0_vote_17 rfl
      · exact ExT_fl
-- QuorumAlmanac.clock(I)I
def m_X1_clock (a0 : Nat) (x1 : Int32) : Ms Int32 :=
  bd (ko [1] a0 (m_X1_node a0 x1)) fun r24 =>
  gI [2] 7 r24 fun x25 =>
  rt x25
theorem hm_X1_clock : (yX1_clock.cls ≠ "java/lang/invoke/MethodHandle" ∧ yX1_clock.cls ≠ "java/lang/invoke/VarHandle" ∧ (parseMethodDescriptor yX1_clock.desc).map (fun d => d.parameters.length) = some 1) := by decide +kernel
set_option maxHeartbeats 4000000 in
set_option maxRecDepth 100000 in
theorem L_X1_clock {G : GT} (hG : GOK G) (a0 : Nat) (x1 : Int32) : Cal G yX1_clock (ws_ yX1_clock cX1_clock 2 (Option.some Jvm.ClassFile.FieldType.int)) 8 130 [.ref a0, .int x1] rI (m_X1_clock a0 x1) := by
  refine Cal_of hG (by decide +kernel) (Nat.le_of_ble_eq_true rfl) (lv0 := [(0, .ref a0), (1, .int x1)]) rfl (fun X σ0 => ?_)
  delta m_X1_clock
  refine Ex_aload_n dX1_clock_0 rfl 0 rfl ?_
  refine Ex_iload_n dX1_clock_1 rfl 1 rfl ?_
  refine Ex_bdR (Inv_V (L_X1_node hG a0 x1) (lw_V q874 q876 qs5 q45 q877) oe_1 ⟨rfl, hm_X1_node⟩ (by decide) (by decide) dX1_clock_2 rfl (Nat.le_of_ble_eq_true rfl)) (fun _ hz => nomatch hz) (fun r24 => ?_)
  refine Ex_gI dX1_clock_5 lk_X1_122 rfl (fun x25 => ?_)
  exact Ex_ireturn dX1_clock_8 rfl
-- QuorumAlmanacLaw.clock(LQuorumAlmanac;I[J)I
def m_X0_clock (a0 : Nat) (x1 : Int32) (a2 : Nat) : Ms Int32 :=
  tr (ko [1] a0 (m_X1_clock a0 x1)) (fun r22 =>
    sV 35 a2 0 (.long r22.toInt64) <|
    rt 0) fun e q23 =>
    if e = 0 then
      rt 1
    else fl
theorem hm_X0_clock : (yX0_clock.cls ≠ "java/lang/invoke/MethodHandle" ∧ yX0_clock.cls ≠ "java/lang/invoke/VarHandle" ∧ (parseMethodDescriptor yX0_clock.desc).map (fun d => d.parameters.length) = some 3) := by decide +kernel
set_option maxHeartbeats 4000000 in
set_option maxRecDepth 100000 in
theorem L_X0_clock {G : GT} (hG : GOK G) (a0 : Nat) (x1 : Int32) (a2 : Nat) : Cal G yX0_clock (wsW_ yX0_clock cX0_clock 4 (Option.some Jvm.ClassFile.FieldType.int) [(0, 9, 12, 13)]) 9 151 [.ref a0, .int x1, .ref a2] rI (m_X0_clock a0 x1 a2) := by
  refine Cal_ofH hG (by decide +kernel) (Nat.le_of_ble_eq_true rfl) (tb := [{ startPc := 0, endPc := 9, handlerPc := 12, catchType := 13 }]) rfl (lv0 := [(0, .ref a0), (1, .int x1), (2, .ref a2)]) rfl (fun X σ0 => ?_)
  delta m_X0_clock
  refine Ex_aload_n dX0_clock_0 rfl 2 rfl ?_
  refine Ex_iconst (v := 0) dX0_clock_1 (by decide) ?_
  refine Ex_aload_n dX0_clock_2 rfl 0 rfl ?_
  refine Ex_iload_n dX0_clock_3 rfl 1 rfl ?_
  refine Ex_trI (Inv_V (L_X1_clock hG a0 x1) (lw_V q1423 q1424 q1425 q45 q1426) oe_1 ⟨rfl, hm_X1_clock⟩ (by decide) (by decide) dX0_clock_4 rfl (Nat.le_of_ble_eq_true rfl)) (fun r22 => ?_) (fun e q23 => ?_)
  · refine Ex_i2l dX0_clock_7 ?_
    refine Ex_last dX0_clock_8 ?_
    refine Ex_goto (tgt := 15) dX0_clock_9 (by decide) ?_
    refine Ex_iconst (v := 0) dX0_clock_15 (by decide) ?_
    exact Ex_ireturn dX0_clock_16 rfl
  · refine ExT_if (e0 := 0) ?_ ?_
    · refine ExT_catch (name := "java/lang/IndexOutOfBoundsException") [] { startPc := 0, endPc := 9, handlerPc := 12, catchType := 13 } [] rfl (fun _ hz => nomatch hz) rfl (by decide) q784 q886 ?_
      refine Ex_astore_n (lv' := [(0, .ref a0), (1, .int x1), (2, .ref a2), (3, .ref q23)]) dX0_clock_12 rfl (by decide) [1, 2, 3, 0] rfl ?_
      refine Ex_iconst (v := 1) dX0_clock_13 (by decide) ?_
      exact Ex_ireturn dX0_clock_14 rfl
    · exact ExT_fl
-- QuorumAlmanac.last(I)I
def m_X1_last (a0 : Nat) (x1 : Int32) : Ms Int32 :=
  gR [1] 102 a0 fun x26 =>
  bd (ko [1] a0 (m_X1_node a0 x1)) fun r27 =>
  bn (mof m_X1_lambda_new_0 m_X1_lambda_new_1 x26 r27) fun r28 =>
  rt r28
theorem hm_X1_last : (yX1_last.cls ≠ "java/lang/invoke/MethodHandle" ∧ yX1_last.cls ≠ "java/lang/invoke/VarHandle" ∧ (parseMethodDescriptor yX1_last.desc).map (fun d => d.parameters.length) = some 1) := by decide +kernel
set_option maxHeartbeats 4000000 in
set_option maxRecDepth 100000 in
theorem L_X1_last {G : GT} (hG : GOK G) (a0 : Nat) (x1 : Int32) : Cal G yX1_last (ws_ yX1_last cX1_last 2 (Option.some Jvm.ClassFile.FieldType.int)) 8 141 [.ref a0, .int x1] rI (m_X1_last a0 x1) := by
  refine Cal_of hG (by decide +kernel) (Nat.le_of_ble_eq_true rfl) (lv0 := [(0, .ref a0), (1, .int x1)]) rfl (fun X σ0 => ?_)
  delta m_X1_last
  refine Ex_aload_n dX1_last_0 rfl 0 rfl ?_
  refine Ex_gR dX1_last_1 lk_X1_23 rfl (fun x26 => ?_)
  refine Ex_aload_n dX1_last_4 rfl 0 rfl ?_
  refine Ex_iload_n dX1_last_5 rfl 1 rfl ?_
  refine Ex_bdR (Inv_V (L_X1_node hG a0 x1) (lw_V q874 q876 qs5 q45 q877) oe_1 ⟨rfl, hm_X1_node⟩ (by decide) (by decide) dX1_last_6 rfl (Nat.le_of_ble_eq_true rfl)) (fun _ hz => nomatch hz) (fun r27 => ?_)
  refine Ex_bnI (Inv_of (L_X1_lambda_new_0 hG r27) (L_X1_lambda_new_1 hG r27) rfl rfl q362 q364 q363 q105 q115 q45 q106 q116 (by decide) (by decide) (by decide) (by decide) dX1_last_9 (Nat.le_of_ble_eq_true rfl)) (fun r28 => ?_)
  exact Ex_ireturn dX1_last_14 rfl
-- QuorumAlmanacLaw.last(LQuorumAlmanac;I[J)I
def m_X0_last (a0 : Nat) (x1 : Int32) (a2 : Nat) : Ms Int32 :=
  tr (ko [1] a0 (m_X1_last a0 x1)) (fun r22 =>
    sV 35 a2 0 (.long r22.toInt64) <|
    rt 0) fun e q23 =>
    if e = 0 then
      rt 1
    else fl
theorem hm_X0_last : (yX0_last.cls ≠ "java/lang/invoke/MethodHandle" ∧ yX0_last.cls ≠ "java/lang/invoke/VarHandle" ∧ (parseMethodDescriptor yX0_last.desc).map (fun d => d.parameters.length) = some 3) := by decide +kernel
set_option maxHeartbeats 4000000 in
set_option maxRecDepth 100000 in
theorem L_X0_last {G : GT} (hG : GOK G) (a0 : Nat) (x1 : Int32) (a2 : Nat) : Cal G yX0_last (wsW_ yX0_last cX0_last 4 (Option.some Jvm.ClassFile.FieldType.int) [(0, 9, 12, 13)]) 9 162 [.ref a0, .int x1, .ref a2] rI (m_X0_last a0 x1 a2) := by
  refine Cal_ofH hG (by decide +kernel) (Nat.le_of_ble_eq_true rfl) (tb := [{ startPc := 0, endPc := 9, handlerPc := 12, catchType := 13 }]) rfl (lv0 := [(0, .ref a0), (1, .int x1), (2, .ref a2)]) rfl (fun X σ0 => ?_)
  delta m_X0_last
  refine Ex_aload_n dX0_last_0 rfl 2 rfl ?_
  refine Ex_iconst (v := 0) dX0_last_1 (by decide) ?_
  refine Ex_aload_n dX0_last_2 rfl 0 rfl ?_
  refine Ex_iload_n dX0_last_3 rfl 1 rfl ?_
  refine Ex_trI (Inv_V (L_X1_last hG a0 x1) (lw_V q1430 q1431 q1432 q45 q1433) oe_1 ⟨rfl, hm_X1_last⟩ (by decide) (by decide) dX0_last_4 rfl (Nat.le_of_ble_eq_true rfl)) (fun r22 => ?_) (fun e q23 => ?_)
  · refine Ex_i2l dX0_last_7 ?_
    refine Ex_last dX0_last_8 ?_
    refine Ex_goto (tgt := 15) dX0_last_9 (by decide) ?_
    refine Ex_iconst (v := 0) dX0_last_15 (by decide) ?_
    exact Ex_ireturn dX0_last_16 rfl
  · refine ExT_if (e0 := 0) ?_ ?_
    · refine ExT_catch (name := "java/lang/IndexOutOfBoundsException") [] { startPc := 0, endPc := 9, handlerPc := 12, catchType := 13 } [] rfl (fun _ hz => nomatch hz) rfl (by decide) q784 q886 ?_
      refine Ex_astore_n (lv' := [(0, .ref a0), (1, .int x1), (2, .ref a2), (3, .ref q23)]) dX0_last_12 rfl (by decide) [1, 2, 3, 0] rfl ?_
      refine Ex_iconst (v := 1) dX0_last_13 (by decide) ?_
      exact Ex_ireturn dX0_last_14 rfl
    · exact ExT_fl
-- QuorumAlmanac.synced(I)I
def m_X1_synced (a0 : Nat) (x1 : Int32) : Ms Int32 :=
  bd (ko [1] a0 (m_X1_node a0 x1)) fun r24 =>
  gI [2] 12 r24 fun x25 =>
  rt x25
theorem hm_X1_synced : (yX1_synced.cls ≠ "java/lang/invoke/MethodHandle" ∧ yX1_synced.cls ≠ "java/lang/invoke/VarHandle" ∧ (parseMethodDescriptor yX1_synced.desc).map (fun d => d.parameters.length) = some 1) := by decide +kernel
set_option maxHeartbeats 4000000 in
set_option maxRecDepth 100000 in
theorem L_X1_synced {G : GT} (hG : GOK G) (a0 : Nat) (x1 : Int32) : Cal G yX1_synced (ws_ yX1_synced cX1_synced 2 (Option.some Jvm.ClassFile.FieldType.int)) 8 130 [.ref a0, .int x1] rI (m_X1_synced a0 x1) := by
  refine Cal_of hG (by decide +kernel) (Nat.le_of_ble_eq_true rfl) (lv0 := [(0, .ref a0), (1, .int x1)]) rfl (fun X σ0 => ?_)
  delta m_X1_synced
  refine Ex_aload_n dX1_synced_0 rfl 0 rfl ?_
  refine Ex_iload_n dX1_synced_1 rfl 1 rfl ?_
  refine Ex_bdR (Inv_V (L_X1_node hG a0 x1) (lw_V q874 q876 qs5 q45 q877) oe_1 ⟨rfl, hm_X1_node⟩ (by decide) (by decide) dX1_synced_2 rfl (Nat.le_of_ble_eq_true rfl)) (fun _ hz => nomatch hz) (fun r24 => ?_)
  refine Ex_gI dX1_synced_5 lk_X1_167 rfl (fun x25 => ?_)
  exact Ex_ireturn dX1_synced_8 rfl
-- QuorumAlmanacLaw.synced(LQuorumAlmanac;I[J)I
def m_X0_synced (a0 : Nat) (x1 : Int32) (a2 : Nat) : Ms Int32 :=
  tr (ko [1] a0 (m_X1_synced a0 x1)) (fun r22 =>
    sV 35 a2 0 (.long r22.toInt64) <|
    rt 0) fun e q23 =>
    if e = 0 then
      rt 1
    else fl
theorem hm_X0_synced : (yX0_synced.cls ≠ "java/lang/invoke/MethodHandle" ∧ yX0_synced.cls ≠ "java/lang/invoke/VarHandle" ∧ (parseMethodDescriptor yX0_synced.desc).map (fun d => d.parameters.length) = some 3) := by decide +kernel
set_option maxHeartbeats 4000000 in
set_option maxRecDepth 100000 in
theorem L_X0_synced {G : GT} (hG : GOK G) (a0 : Nat) (x1 : Int32) (a2 : Nat) : Cal G yX0_synced (wsW_ yX0_synced cX0_synced 4 (Option.some Jvm.ClassFile.FieldType.int) [(0, 9, 12, 13)]) 9 151 [.ref a0, .int x1, .ref a2] rI (m_X0_synced a0 x1 a2) := by
  refine Cal_ofH hG (by decide +kernel) (Nat.le_of_ble_eq_true rfl) (tb := [{ startPc := 0, endPc := 9, handlerPc := 12, catchType := 13 }]) rfl (lv0 := [(0, .ref a0), (1, .int x1), (2, .ref a2)]) rfl (fun X σ0 => ?_)
  delta m_X0_synced
  refine Ex_aload_n dX0_synced_0 rfl 2 rfl ?_
  refine Ex_iconst (v := 0) dX0_synced_1 (by decide) ?_
  refine Ex_aload_n dX0_synced_2 rfl 0 rfl ?_
  refine Ex_iload_n dX0_synced_3 rfl 1 rfl ?_
  refine Ex_trI (Inv_V (L_X1_synced hG a0 x1) (lw_V q1437 q1438 q1439 q45 q1440) oe_1 ⟨rfl, hm_X1_synced⟩ (by decide) (by decide) dX0_synced_4 rfl (Nat.le_of_ble_eq_true rfl)) (fun r22 => ?_) (fun e q23 => ?_)
  · refine Ex_i2l dX0_synced_7 ?_
    refine Ex_last dX0_synced_8 ?_
    refine Ex_goto (tgt := 15) dX0_synced_9 (by decide) ?_
    refine Ex_iconst (v := 0) dX0_synced_15 (by decide) ?_
    exact Ex_ireturn dX0_synced_16 rfl
  · refine ExT_if (e0 := 0) ?_ ?_
    · refine ExT_catch (name := "java/lang/IndexOutOfBoundsException") [] { startPc := 0, endPc := 9, handlerPc := 12, catchType := 13 } [] rfl (fun _ hz => nomatch hz) rfl (by decide) q784 q886 ?_
      refine Ex_astore_n (lv' := [(0, .ref a0), (1, .int x1), (2, .ref a2), (3, .ref q23)]) dX0_synced_12 rfl (by decide) [1, 2, 3, 0] rfl ?_
      refine Ex_iconst (v := 1) dX0_synced_13 (by decide) ?_
      exact Ex_ireturn dX0_synced_14 rfl
    · exact ExT_fl
-- QuorumAlmanac.committed(I)I
def m_X1_committed (a0 : Nat) (x1 : Int32) : Ms Int32 :=
  bd (ko [1] a0 (m_X1_node a0 x1)) fun r24 =>
  gI [2] 13 r24 fun x25 =>
  rt x25
theorem hm_X1_committed : (yX1_committed.cls ≠ "java/lang/invoke/MethodHandle" ∧ yX1_committed.cls ≠ "java/lang/invoke/VarHandle" ∧ (parseMethodDescriptor yX1_committed.desc).map (fun d => d.parameters.length) = some 1) := by decide +kernel
set_option maxHeartbeats 4000000 in
set_option maxRecDepth 100000 in
theorem L_X1_committed {G : GT} (hG : GOK G) (a0 : Nat) (x1 : Int32) : Cal G yX1_committed (ws_ yX1_committed cX1_committed 2 (Option.some Jvm.ClassFile.FieldType.int)) 8 130 [.ref a0, .int x1] rI (m_X1_committed a0 x1) := by
  refine Cal_of hG (by decide +kernel) (Nat.le_of_ble_eq_true rfl) (lv0 := [(0, .ref a0), (1, .int x1)]) rfl (fun X σ0 => ?_)
  delta m_X1_committed
  refine Ex_aload_n dX1_committed_0 rfl 0 rfl ?_
  refine Ex_iload_n dX1_committed_1 rfl 1 rfl ?_
  refine Ex_bdR (Inv_V (L_X1_node hG a0 x1) (lw_V q874 q876 qs5 q45 q877) oe_1 ⟨rfl, hm_X1_node⟩ (by decide) (by decide) dX1_committed_2 rfl (Nat.le_of_ble_eq_true rfl)) (fun _ hz => nomatch hz) (fun r24 => ?_)
  refine Ex_gI dX1_committed_5 lk_X1_137 rfl (fun x25 => ?_)
  exact Ex_ireturn dX1_committed_8 rfl
-- QuorumAlmanacLaw.committed(LQuorumAlmanac;I[J)I
def m_X0_committed (a0 : Nat) (x1 : Int32) (a2 : Nat) : Ms Int32 :=
  tr (ko [1] a0 (m_X1_committed a0 x1)) (fun r22 =>
    sV 35 a2 0 (.long r22.toInt64) <|
    rt 0) fun e q23 =>
    if e = 0 then
      rt 1
    else fl
theorem hm_X0_committed : (yX0_committed.cls ≠ "java/lang/invoke/MethodHandle" ∧ yX0_committed.cls ≠ "java/lang/invoke/VarHandle" ∧ (parseMethodDescriptor yX0_committed.desc).map (fun d => d.parameters.length) = some 3) := by decide +kernel
set_option maxHeartbeats 4000000 in
set_option maxRecDepth 100000 in
theorem L_X0_committed {G : GT} (hG : GOK G) (a0 : Nat) (x1 : Int32) (a2 : Nat) : Cal G yX0_committed (wsW_ yX0_committed cX0_committed 4 (Option.some Jvm.ClassFile.FieldType.int) [(0, 9, 12, 13)]) 9 151 [.ref a0, .int x1, .ref a2] rI (m_X0_committed a0 x1 a2) := by
  refine Cal_ofH hG (by decide +kernel) (Nat.le_of_ble_eq_true rfl) (tb := [{ startPc := 0, endPc := 9, handlerPc := 12, catchType := 13 }]) rfl (lv0 := [(0, .ref a0), (1, .int x1), (2, .ref a2)]) rfl (fun X σ0 => ?_)
  delta m_X0_committed
  refine Ex_aload_n dX0_committed_0 rfl 2 rfl ?_
  refine Ex_iconst (v := 0) dX0_committed_1 (by decide) ?_
  refine Ex_aload_n dX0_committed_2 rfl 0 rfl ?_
  refine Ex_iload_n dX0_committed_3 rfl 1 rfl ?_
  refine Ex_trI (Inv_V (L_X1_committed hG a0 x1) (lw_V q1444 q1445 q1446 q45 q1447) oe_1 ⟨rfl, hm_X1_committed⟩ (by decide) (by decide) dX0_committed_4 rfl (Nat.le_of_ble_eq_true rfl)) (fun r22 => ?_) (fun e q23 => ?_)
  · refine Ex_i2l dX0_committed_7 ?_
    refine Ex_last dX0_committed_8 ?_
    refine Ex_goto (tgt := 15) dX0_committed_9 (by decide) ?_
    refine Ex_iconst (v := 0) dX0_committed_15 (by decide) ?_
    exact Ex_ireturn dX0_committed_16 rfl
  · refine ExT_if (e0 := 0) ?_ ?_
    · refine ExT_catch (name := "java/lang/IndexOutOfBoundsException") [] { startPc := 0, endPc := 9, handlerPc := 12, catchType := 13 } [] rfl (fun _ hz => nomatch hz) rfl (by decide) q784 q886 ?_
      refine Ex_astore_n (lv' := [(0, .ref a0), (1, .int x1), (2, .ref a2), (3, .ref q23)]) dX0_committed_12 rfl (by decide) [1, 2, 3, 0] rfl ?_
      refine Ex_iconst (v := 1) dX0_committed_13 (by decide) ?_
      exact Ex_ireturn dX0_committed_14 rfl
    · exact ExT_fl
-- QuorumAlmanac.snapshot(I)I
def m_X1_snapshot (a0 : Nat) (x1 : Int32) : Ms Int32 :=
  bd (ko [1] a0 (m_X1_node a0 x1)) fun r26 =>
  gR [2] 108 r26 fun x27 =>
  gI [5] 20 x27 fun x28 =>
  rt x28
theorem hm_X1_snapshot : (yX1_snapshot.cls ≠ "java/lang/invoke/MethodHandle" ∧ yX1_snapshot.cls ≠ "java/lang/invoke/VarHandle" ∧ (parseMethodDescriptor yX1_snapshot.desc).map (fun d => d.parameters.length) = some 1) := by decide +kernel
set_option maxHeartbeats 4000000 in
set_option maxRecDepth 100000 in
theorem L_X1_snapshot {G : GT} (hG : GOK G) (a0 : Nat) (x1 : Int32) : Cal G yX1_snapshot (ws_ yX1_snapshot cX1_snapshot 2 (Option.some Jvm.ClassFile.FieldType.int)) 8 130 [.ref a0, .int x1] rI (m_X1_snapshot a0 x1) := by
  refine Cal_of hG (by decide +kernel) (Nat.le_of_ble_eq_true rfl) (lv0 := [(0, .ref a0), (1, .int x1)]) rfl (fun X σ0 => ?_)
  delta m_X1_snapshot
  refine Ex_aload_n dX1_snapshot_0 rfl 0 rfl ?_
  refine Ex_iload_n dX1_snapshot_1 rfl 1 rfl ?_
  refine Ex_bdR (Inv_V (L_X1_node hG a0 x1) (lw_V q874 q876 qs5 q45 q877) oe_1 ⟨rfl, hm_X1_node⟩ (by decide) (by decide) dX1_snapshot_2 rfl (Nat.le_of_ble_eq_true rfl)) (fun _ hz => nomatch hz) (fun r26 => ?_)
  refine Ex_gR dX1_snapshot_5 lk_X1_140 rfl (fun x27 => ?_)
  refine Ex_gI dX1_snapshot_8 lk_X1_144 rfl (fun x28 => ?_)
  exact Ex_ireturn dX1_snapshot_11 rfl
-- QuorumAlmanacLaw.snapshot(LQuorumAlmanac;I[J)I
def m_X0_snapshot (a0 : Nat) (x1 : Int32) (a2 : Nat) : Ms Int32 :=
  tr (ko [1] a0 (m_X1_snapshot a0 x1)) (fun r22 =>
    sV 35 a2 0 (.long r22.toInt64) <|
    rt 0) fun e q23 =>
    if e = 0 then
      rt 1
    else fl
theorem hm_X0_snapshot : (yX0_snapshot.cls ≠ "java/lang/invoke/MethodHandle" ∧ yX0_snapshot.cls ≠ "java/lang/invoke/VarHandle" ∧ (parseMethodDescriptor yX0_snapshot.desc).map (fun d => d.parameters.length) = some 3) := by decide +kernel
set_option maxHeartbeats 4000000 in
set_option maxRecDepth 100000 in
theorem L_X0_snapshot {G : GT} (hG : GOK G) (a0 : Nat) (x1 : Int32) (a2 : Nat) : Cal G yX0_snapshot (wsW_ yX0_snapshot cX0_snapshot 4 (Option.some Jvm.ClassFile.FieldType.int) [(0, 9, 12, 13)]) 9 151 [.ref a0, .int x1, .ref a2] rI (m_X0_snapshot a0 x1 a2) := by
  refine Cal_ofH hG (by decide +kernel) (Nat.le_of_ble_eq_true rfl) (tb := [{ startPc := 0, endPc := 9, handlerPc := 12, catchType := 13 }]) rfl (lv0 := [(0, .ref a0), (1, .int x1), (2, .ref a2)]) rfl (fun X σ0 => ?_)
  delta m_X0_snapshot
  refine Ex_aload_n dX0_snapshot_0 rfl 2 rfl ?_
  refine Ex_iconst (v := 0) dX0_snapshot_1 (by decide) ?_
  refine Ex_aload_n dX0_snapshot_2 rfl 0 rfl ?_
  refine Ex_iload_n dX0_snapshot_3 rfl 1 rfl ?_
  refine Ex_trI (Inv_V (L_X1_snapshot hG a0 x1) (lw_V q1451 q1452 q1453 q45 q1454) oe_1 ⟨rfl, hm_X1_snapshot⟩ (by decide) (by decide) dX0_snapshot_4 rfl (Nat.le_of_ble_eq_true rfl)) (fun r22 => ?_) (fun e q23 => ?_)
  · refine Ex_i2l dX0_snapshot_7 ?_
    refine Ex_last dX0_snapshot_8 ?_
    refine Ex_goto (tgt := 15) dX0_snapshot_9 (by decide) ?_
    refine Ex_iconst (v := 0) dX0_snapshot_15 (by decide) ?_
    exact Ex_ireturn dX0_snapshot_16 rfl
  · refine ExT_if (e0 := 0) ?_ ?_
    · refine ExT_catch (name := "java/lang/IndexOutOfBoundsException") [] { startPc := 0, endPc := 9, handlerPc := 12, catchType := 13 } [] rfl (fun _ hz => nomatch hz) rfl (by decide) q784 q886 ?_
      refine Ex_astore_n (lv' := [(0, .ref a0), (1, .int x1), (2, .ref a2), (3, .ref q23)]) dX0_snapshot_12 rfl (by decide) [1, 2, 3, 0] rfl ?_
      refine Ex_iconst (v := 1) dX0_snapshot_13 (by decide) ?_
      exact Ex_ireturn dX0_snapshot_14 rfl
    · exact ExT_fl
-- QuorumAlmanac.members(I)I
def m_X1_members (a0 : Nat) (x1 : Int32) : Ms Int32 :=
  bd (ko [1] a0 (m_X1_node a0 x1)) fun r26 =>
  bn (ko [2] r26 (m_X2_members r26)) fun r27 =>
  bn (ko [3] r27 (m_X3_all r27)) fun r28 =>
  rt r28
theorem hm_X1_members : (yX1_members.cls ≠ "java/lang/invoke/MethodHandle" ∧ yX1_members.cls ≠ "java/lang/invoke/VarHandle" ∧ (parseMethodDescriptor yX1_members.desc).map (fun d => d.parameters.length) = some 1) := by decide +kernel
set_option maxHeartbeats 4000000 in
set_option maxRecDepth 100000 in
theorem L_X1_members {G : GT} (hG : GOK G) (a0 : Nat) (x1 : Int32) : Cal G yX1_members (ws_ yX1_members cX1_members 2 (Option.some Jvm.ClassFile.FieldType.int)) 8 167 [.ref a0, .int x1] rI (m_X1_members a0 x1) := by
  refine Cal_of hG (by decide +kernel) (Nat.le_of_ble_eq_true rfl) (lv0 := [(0, .ref a0), (1, .int x1)]) rfl (fun X σ0 => ?_)
  delta m_X1_members
  refine Ex_aload_n dX1_members_0 rfl 0 rfl ?_
  refine Ex_iload_n dX1_members_1 rfl 1 rfl ?_
  refine Ex_bdR (Inv_V (L_X1_node hG a0 x1) (lw_V q874 q876 qs5 q45 q877) oe_1 ⟨rfl, hm_X1_node⟩ (by decide) (by decide) dX1_members_2 rfl (Nat.le_of_ble_eq_true rfl)) (fun _ hz => nomatch hz) (fun r26 => ?_)
  refine Ex_bnR (Inv_V (L_X2_members hG r26) (lw_V q1462 q975 q976 q50 q977) oe_2 ⟨rfl, hm_X2_members⟩ (by decide) (by decide) dX1_members_5 rfl (Nat.le_of_ble_eq_true rfl)) (fun r27 => ?_)
  refine Ex_bnI (Inv_V (L_X3_all hG r27) (lw_V q1463 q982 q983 q51 q984) oe_3 ⟨rfl, hm_X3_all⟩ (by decide) (by decide) dX1_members_8 rfl (Nat.le_of_ble_eq_true rfl)) (fun r28 => ?_)
  exact Ex_ireturn dX1_members_11 rfl
-- QuorumAlmanacLaw.members(LQuorumAlmanac;I[J)I
def m_X0_members (a0 : Nat) (x1 : Int32) (a2 : Nat) : Ms Int32 :=
  tr (ko [1] a0 (m_X1_members a0 x1)) (fun r22 =>
    sV 35 a2 0 (.long r22.toInt64) <|
    rt 0) fun e q23 =>
    if e = 0 then
      rt 1
    else fl
theorem hm_X0_members : (yX0_members.cls ≠ "java/lang/invoke/MethodHandle" ∧ yX0_members.cls ≠ "java/lang/invoke/VarHandle" ∧ (parseMethodDescriptor yX0_members.desc).map (fun d => d.parameters.length) = some 3) := by decide +kernel
set_option maxHeartbeats 4000000 in
set_option maxRecDepth 100000 in
theorem L_X0_members {G : GT} (hG : GOK G) (a0 : Nat) (x1 : Int32) (a2 : Nat) : Cal G yX0_members (wsW_ yX0_members cX0_members 4 (Option.some Jvm.ClassFile.FieldType.int) [(0, 9, 12, 13)]) 9 188 [.ref a0, .int x1, .ref a2] rI (m_X0_members a0 x1 a2) := by
  refine Cal_ofH hG (by decide +kernel) (Nat.le_of_ble_eq_true rfl) (tb := [{ startPc := 0, endPc := 9, handlerPc := 12, catchType := 13 }]) rfl (lv0 := [(0, .ref a0), (1, .int x1), (2, .ref a2)]) rfl (fun X σ0 => ?_)
  delta m_X0_members
  refine Ex_aload_n dX0_members_0 rfl 2 rfl ?_
  refine Ex_iconst (v := 0) dX0_members_1 (by decide) ?_
  refine Ex_aload_n dX0_members_2 rfl 0 rfl ?_
  refine Ex_iload_n dX0_members_3 rfl 1 rfl ?_
  refine Ex_trI (Inv_V (L_X1_members hG a0 x1) (lw_V q1458 q1459 q1460 q45 q1461) oe_1 ⟨rfl, hm_X1_members⟩ (by decide) (by decide) dX0_members_4 rfl (Nat.le_of_ble_eq_true rfl)) (fun r22 => ?_) (fun e q23 => ?_)
  · refine Ex_i2l dX0_members_7 ?_
    refine Ex_last dX0_members_8 ?_
    refine Ex_goto (tgt := 15) dX0_members_9 (by decide) ?_
    refine Ex_iconst (v := 0) dX0_members_15 (by decide) ?_
    exact Ex_ireturn dX0_members_16 rfl
  · refine ExT_if (e0 := 0) ?_ ?_
    · refine ExT_catch (name := "java/lang/IndexOutOfBoundsException") [] { startPc := 0, endPc := 9, handlerPc := 12, catchType := 13 } [] rfl (fun _ hz => nomatch hz) rfl (by decide) q784 q886 ?_
      refine Ex_astore_n (lv' := [(0, .ref a0), (1, .int x1), (2, .ref a2), (3, .ref q23)]) dX0_members_12 rfl (by decide) [1, 2, 3, 0] rfl ?_
      refine Ex_iconst (v := 1) dX0_members_13 (by decide) ?_
      exact Ex_ireturn dX0_members_14 rfl
    · exact ExT_fl
-- QuorumAlmanac.entryOf(II)LQuorumAlmanac$Entry;
def m_X1_entryOf (a0 : Nat) (x1 : Int32) (x2 : Int32) : Ms Nat :=
  bd (ko [1] a0 (m_X1_node a0 x1)) fun r26 =>
  bn (ko [2] r26 (m_X2_has r26 x2)) fun r27 =>
  bd (m_X1_requireElement r27) fun _ =>
  bn (ko [2] r26 (m_X2_entry r26 x2)) fun r28 =>
  rt r28
theorem hm_X1_entryOf : (yX1_entryOf.cls ≠ "java/lang/invoke/MethodHandle" ∧ yX1_entryOf.cls ≠ "java/lang/invoke/VarHandle" ∧ (parseMethodDescriptor yX1_entryOf.desc).map (fun d => d.parameters.length) = some 2) := by decide +kernel
set_option maxHeartbeats 4000000 in
set_option maxRecDepth 100000 in
theorem L_X1_entryOf {G : GT} (hG : GOK G) (a0 : Nat) (x1 : Int32) (x2 : Int32) : Cal G yX1_entryOf (ws_ yX1_entryOf cX1_entryOf 4 (Option.some (Jvm.ClassFile.FieldType.object "QuorumAlmanac$Entry"))) 8 145 [.ref a0, .int x1, .int x2] rR (m_X1_entryOf a0 x1 x2) := by
  refine Cal_of hG (by decide +kernel) (Nat.le_of_ble_eq_true rfl) (lv0 := [(0, .ref a0), (1, .int x1), (2, .int x2)]) rfl (fun X σ0 => ?_)
  delta m_X1_entryOf
  refine Ex_aload_n dX1_entryOf_0 rfl 0 rfl ?_
  refine Ex_iload_n dX1_entryOf_1 rfl 1 rfl ?_
  refine Ex_bdR (Inv_V (L_X1_node hG a0 x1) (lw_V q874 q876 qs5 q45 q877) oe_1 ⟨rfl, hm_X1_node⟩ (by decide) (by decide) dX1_entryOf_2 rfl (Nat.le_of_ble_eq_true rfl)) (fun _ hz => nomatch hz) (fun r26 => ?_)
  refine Ex_astore_n (lv' := [(0, .ref a0), (1, .int x1), (2, .int x2), (3, .ref r26)]) dX1_entryOf_5 rfl (by decide) [1, 2, 3, 0] rfl ?_
  refine Ex_aload_n dX1_entryOf_6 rfl 3 rfl ?_
  refine Ex_iload_n dX1_entryOf_7 rfl 2 rfl ?_
  refine Ex_bnI (Inv_V (L_X2_has hG r26 x2) (lw_V q1475 q1316 q1317 q50 q1318) oe_2 ⟨rfl, hm_X2_has⟩ (by decide) (by decide) dX1_entryOf_8 rfl (Nat.le_of_ble_eq_true rfl)) (fun r27 => ?_)
  refine Ex_bdU (Inv_S (L_X1_requireElement hG r27) (lw_S q1415 q1416 q45 q1417) hm_X1_requireElement (by decide) (by decide) dX1_entryOf_11 rfl (Nat.le_of_ble_eq_true rfl)) (fun _ hz => nomatch hz) (fun _ => ?_)
  refine Ex_aload_n dX1_entryOf_14 rfl 3 rfl ?_
  refine Ex_iload_n dX1_entryOf_15 rfl 2 rfl ?_
  refine Ex_bnR (Inv_V (L_X2_entry hG r26 x2) (lw_V q410 q411 q412 q50 q413) oe_2 ⟨rfl, hm_X2_entry⟩ (by decide) (by decide) dX1_entryOf_16 rfl (Nat.le_of_ble_eq_true rfl)) (fun r28 => ?_)
  exact Ex_areturn dX1_entryOf_19 rfl (Or.inl ⟨_, rfl⟩)
-- QuorumAlmanac.entryTerm(II)I
def m_X1_entryTerm (a0 : Nat) (x1 : Int32) (x2 : Int32) : Ms Int32 :=
  bd (ko [1] a0 (m_X1_entryOf a0 x1 x2)) fun r24 =>
  gI [9] 32 r24 fun x25 =>
  rt x25
theorem hm_X1_entryTerm : (yX1_entryTerm.cls ≠ "java/lang/invoke/MethodHandle" ∧ yX1_entryTerm.cls ≠ "java/lang/invoke/VarHandle" ∧ (parseMethodDescriptor yX1_entryTerm.desc).map (fun d => d.parameters.length) = some 2) := by decide +kernel
set_option maxHeartbeats 4000000 in
set_option maxRecDepth 100000 in
theorem L_X1_entryTerm {G : GT} (hG : GOK G) (a0 : Nat) (x1 : Int32) (x2 : Int32) : Cal G yX1_entryTerm (ws_ yX1_entryTerm cX1_entryTerm 3 (Option.some Jvm.ClassFile.FieldType.int)) 9 168 [.ref a0, .int x1, .int x2] rI (m_X1_entryTerm a0 x1 x2) := by
  refine Cal_of hG (by decide +kernel) (Nat.le_of_ble_eq_true rfl) (lv0 := [(0, .ref a0), (1, .int x1), (2, .int x2)]) rfl (fun X σ0 => ?_)
  delta m_X1_entryTerm
  refine Ex_aload_n dX1_entryTerm_0 rfl 0 rfl ?_
  refine Ex_iload_n dX1_entryTerm_1 rfl 1 rfl ?_
  refine Ex_iload_n dX1_entryTerm_2 rfl 2 rfl ?_
  refine Ex_bdR (Inv_V (L_X1_entryOf hG a0 x1 x2) (lw_V q1471 q1473 qs25 q45 q1474) oe_1 ⟨rfl, hm_X1_entryOf⟩ (by decide) (by decide) dX1_entryTerm_3 rfl (Nat.le_of_ble_eq_true rfl)) (fun _ hz => nomatch hz) (fun r24 => ?_)
  refine Ex_gI dX1_entryTerm_6 lk_X1_189 rfl (fun x25 => ?_)
  exact Ex_ireturn dX1_entryTerm_9 rfl
