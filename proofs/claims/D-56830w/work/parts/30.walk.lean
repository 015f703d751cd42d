-- QuorumAlmanac.refusedShare()F
def m_X1_refusedShare (a0 : Nat) : Ms UInt32 :=
  gJ [1] 154 a0 fun x26 =>
  if ¬ (lg_cmp x26 0) = 0 then
    gI [1] 1 a0 fun x27 =>
    gJ [1] 154 a0 fun x28 =>
    ck (FP.fdiv (FP.i2f x27) (FP.l2f x28) &&& 0x7fffffff ≤ 0x7f800000) <|
    rt (FP.fdiv (FP.i2f x27) (FP.l2f x28))
  else
    th 5
theorem hm_X1_refusedShare : (yX1_refusedShare.cls ≠ "java/lang/invoke/MethodHandle" ∧ yX1_refusedShare.cls ≠ "java/lang/invoke/VarHandle" ∧ (parseMethodDescriptor yX1_refusedShare.desc).map (fun d => d.parameters.length) = some 0) := by decide +kernel
set_option maxHeartbeats 4000000 in
set_option maxRecDepth 100000 in
theorem L_X1_refusedShare {G : GT} (hG : GOK G) (a0 : Nat) : Cal G yX1_refusedShare (ws_ yX1_refusedShare cX1_refusedShare 1 (Option.some Jvm.ClassFile.FieldType.float)) 6 89 [.ref a0] rF (m_X1_refusedShare a0) := by
  refine Cal_of hG (by decide +kernel) (Nat.le_of_ble_eq_true rfl) (lv0 := [(0, .ref a0)]) rfl (fun X σ0 => ?_)
  delta m_X1_refusedShare
  refine Ex_aload_n dX1_refusedShare_0 rfl 0 rfl ?_
  refine Ex_gJ dX1_refusedShare_1 lk_X1_232 rfl (fun x26 => ?_)
  refine Ex_lconst (v := 0) dX1_refusedShare_4 (by decide) ?_
  refine Ex_lcmp dX1_refusedShare_5 ?_
  refine Ex_if_ne (tgt := 17) dX1_refusedShare_6 (by decide) ?_ ?_
  · refine Ex_aload_n dX1_refusedShare_17 rfl 0 rfl ?_
    refine Ex_gI dX1_refusedShare_18 lk_X1_339 rfl (fun x27 => ?_)
    refine Ex_i2f dX1_refusedShare_21 ?_
    refine Ex_aload_n dX1_refusedShare_22 rfl 0 rfl ?_
    refine Ex_gJ dX1_refusedShare_23 lk_X1_232 rfl (fun x28 => ?_)
    refine Ex_l2f dX1_refusedShare_26 ?_
    refine Ex_ck (fun hne => ?_)
    refine Ex_fdiv hne dX1_refusedShare_27 ?_
    exact Ex_freturn dX1_refusedShare_28 rfl
  · exact Ex_th ["java/lang/RuntimeException", "java/lang/Exception"] (by decide) (by decide) q1925 q90 at_X1_338 dX1_refusedShare_9 dX1_refusedShare_12 dX1_refusedShare_13 dX1_refusedShare_16 (fun _ hz => nomatch hz) (by decide) (Nat.le_of_ble_eq_true rfl)
-- QuorumAlmanacLaw.refusedShare(LQuorumAlmanac;[D)I
def m_X0_refusedShare (a0 : Nat) (a1 : Nat) : Ms Int32 :=
  tr (ko [1] a0 (m_X1_refusedShare a0)) (fun r22 =>
    ck (FP.f2d r22 &&& 0x7fffffffffffffff ≤ 0x7ff0000000000000) <|
    sV 36 a1 0 (.double (FP.f2d r22)) <|
    rt 0) fun e q23 =>
    if e = 5 then
      rt 1
    else fl
theorem hm_X0_refusedShare : (yX0_refusedShare.cls ≠ "java/lang/invoke/MethodHandle" ∧ yX0_refusedShare.cls ≠ "java/lang/invoke/VarHandle" ∧ (parseMethodDescriptor yX0_refusedShare.desc).map (fun d => d.parameters.length) = some 2) := by decide +kernel
set_option maxHeartbeats 4000000 in
set_option maxRecDepth 100000 in
theorem L_X0_refusedShare {G : GT} (hG : GOK G) (a0 : Nat) (a1 : Nat) : Cal G yX0_refusedShare (wsW_ yX0_refusedShare cX0_refusedShare 3 (Option.some Jvm.ClassFile.FieldType.int) [(0, 8, 11, 133)]) 7 109 [.ref a0, .ref a1] rI (m_X0_refusedShare a0 a1) := by
  refine Cal_ofH hG (by decide +kernel) (Nat.le_of_ble_eq_true rfl) (tb := [{ startPc := 0, endPc := 8, handlerPc := 11, catchType := 133 }]) rfl (lv0 := [(0, .ref a0), (1, .ref a1)]) rfl (fun X σ0 => ?_)
  delta m_X0_refusedShare
  refine Ex_aload_n dX0_refusedShare_0 rfl 1 rfl ?_
  refine Ex_iconst (v := 0) dX0_refusedShare_1 (by decide) ?_
  refine Ex_aload_n dX0_refusedShare_2 rfl 0 rfl ?_
  refine Ex_trF (Inv_V (L_X1_refusedShare hG a0) (lw_V q1921 q1922 q1923 q45 q1924) oe_1 ⟨rfl, hm_X1_refusedShare⟩ (by decide) (by decide) dX0_refusedShare_3 rfl (Nat.le_of_ble_eq_true rfl)) (fun r22 => ?_) (fun e q23 => ?_)
  · refine Ex_ck (fun hne => ?_)
    refine Ex_f2d hne dX0_refusedShare_6 ?_
    refine Ex_dast dX0_refusedShare_7 ?_
    refine Ex_goto (tgt := 14) dX0_refusedShare_8 (by decide) ?_
    refine Ex_iconst (v := 0) dX0_refusedShare_14 (by decide) ?_
    exact Ex_ireturn dX0_refusedShare_15 rfl
  · refine ExT_if (e0 := 5) ?_ ?_
    · refine ExT_catch (name := "java/lang/ArithmeticException") [] { startPc := 0, endPc := 8, handlerPc := 11, catchType := 133 } [] rfl (fun _ hz => nomatch hz) rfl (by decide) q1907 q1919 ?_
      refine Ex_astore_n (lv' := [(0, .ref a0), (1, .ref a1), (2, .ref q23)]) dX0_refusedShare_11 rfl (by decide) [1, 2, 0] rfl ?_
      refine Ex_iconst (v := 1) dX0_refusedShare_12 (by decide) ?_
      exact Ex_ireturn dX0_refusedShare_13 rfl
    · exact ExT_fl
-- QuorumAlmanac$Node.<init>(LQuorumAlmanac;ILQuorumAlmanac$Members;)V
def m_X2_init (a0 : Nat) (a1 : Nat) (x2 : Int32) (a3 : Nat) : Ms Unit :=
  pV [2] 115 a0 (.ref a1) <|
  pV [2] 5 a0 (.int 1) <|
  pV [2] 6 a0 (.int 102) <|
  pV [2] 9 a0 (.int (-1)) <|
  pV [2] 11 a0 (.int (-1000)) <|
  nO 22 3 dfl fun a36 =>
  bn (m_J2_init a36) fun _ =>
  pV [2] 109 a0 (.ref a36) <|
  nO 4 3 dfl fun a37 =>
  bn (m_X4_init a37) fun _ =>
  pV [2] 110 a0 (.ref a37) <|
  pV [2] 15 a0 (.int (-1)) <|
  nA 30 5 (.int 0) fun a38 =>
  pV [2] 111 a0 (.ref a38) <|
  nA 30 5 (.int 0) fun a39 =>
  pV [2] 112 a0 (.ref a39) <|
  nA 30 5 (.int 0) fun a40 =>
  pV [2] 113 a0 (.ref a40) <|
  nO 22 3 dfl fun a41 =>
  bn (m_J2_init a41) fun _ =>
  pV [2] 114 a0 (.ref a41) <|
  pV [2] 4 a0 (.int x2) <|
  nO 5 4 dfl fun a42 =>
  nO 4 3 dfl fun a43 =>
  bn (m_X4_init a43) fun _ =>
  bn (m_X5_init a42 0 0 a3 a43) fun _ =>
  pV [2] 108 a0 (.ref a42) <|
  rt ()
theorem hm_X2_init : (yX2_init.cls ≠ "java/lang/invoke/MethodHandle" ∧ yX2_init.cls ≠ "java/lang/invoke/VarHandle" ∧ (parseMethodDescriptor yX2_init.desc).map (fun d => d.parameters.length) = some 3) := by decide +kernel
set_option maxHeartbeats 4000000 in
set_option maxRecDepth 100000 in
theorem L_X2_init {G : GT} (hG : GOK G) (a0 : Nat) (a1 : Nat) (x2 : Int32) (a3 : Nat) : Cal G yX2_init (ws_ yX2_init cX2_init 4 (Option.none : Option Jvm.ClassFile.FieldType)) 5 120 [.ref a0, .ref a1, .int x2, .ref a3] rU (m_X2_init a0 a1 x2 a3) := by
  refine Cal_of hG (by decide +kernel) (Nat.le_of_ble_eq_true rfl) (lv0 := [(0, .ref a0), (1, .ref a1), (2, .int x2), (3, .ref a3)]) rfl (fun X σ0 => ?_)
  delta m_X2_init
  refine Ex_aload_n dX2_init_0 rfl 0 rfl ?_
  refine Ex_aload_n dX2_init_1 rfl 1 rfl ?_
  refine Ex_pVF dX2_init_2 lkf_X2_3 rfl rfl rfl rfl rfl rfl ?_
  refine Ex_aload_n dX2_init_5 rfl 0 rfl ?_
  refine Ex_objInit dX2_init_6 q173 q103 q104 (by decide) (Nat.le_of_ble_eq_true rfl) ?_
  refine Ex_aload_n dX2_init_9 rfl 0 rfl ?_
  refine Ex_iconst (v := 1) dX2_init_10 (by decide) ?_
  refine Ex_pV dX2_init_11 lk_X2_15 rfl rfl rfl rfl ?_
  refine Ex_aload_n dX2_init_14 rfl 0 rfl ?_
  refine Ex_bipush (v := 102) dX2_init_15 (by decide) ?_
  refine Ex_pV dX2_init_17 lk_X2_19 rfl rfl rfl rfl ?_
  refine Ex_aload_n dX2_init_20 rfl 0 rfl ?_
  refine Ex_iconst (v := (-1)) dX2_init_21 (by decide) ?_
  refine Ex_pV dX2_init_22 lk_X2_23 rfl rfl rfl rfl ?_
  refine Ex_aload_n dX2_init_25 rfl 0 rfl ?_
  refine Ex_sipush (v := (-1000)) dX2_init_26 (by decide) ?_
  refine Ex_pV dX2_init_29 lk_X2_27 rfl rfl rfl rfl ?_
  refine Ex_aload_n dX2_init_32 rfl 0 rfl ?_
  refine Ex_nO (ci := 21) (q := qcl 21) dX2_init_33 rfl q174 q120 q48 (fun a36 => ?_)
  refine Ex_dup rfl dX2_init_36 ?_
  refine Ex_bnU (Inv_I (L_J2_init hG a36) q48 q175 q122 q123 rfl hm_J2_init (by decide) (by decide) dX2_init_37 rfl (Nat.le_of_ble_eq_true rfl)) (fun _ => ?_)
  refine Ex_pV dX2_init_40 lk_X2_33 rfl rfl rfl rfl ?_
  refine Ex_aload_n dX2_init_43 rfl 0 rfl ?_
  refine Ex_nO (ci := 3) (q := qcl 3) dX2_init_44 rfl q176 q177 q52 (fun a37 => ?_)
  refine Ex_dup rfl dX2_init_47 ?_
  refine Ex_bnU (Inv_I (L_X4_init hG a37) q52 q178 q179 q180 rfl hm_X4_init (by decide) (by decide) dX2_init_48 rfl (Nat.le_of_ble_eq_true rfl)) (fun _ => ?_)
  refine Ex_pV dX2_init_51 lk_X2_40 rfl rfl rfl rfl ?_
  refine Ex_aload_n dX2_init_54 rfl 0 rfl ?_
  refine Ex_iconst (v := (-1)) dX2_init_55 (by decide) ?_
  refine Ex_pV dX2_init_56 lk_X2_44 rfl rfl rfl rfl ?_
  refine Ex_aload_n dX2_init_59 rfl 0 rfl ?_
  refine Ex_iconst (v := 5) dX2_init_60 (by decide) ?_
  refine Ex_nA_i dX2_init_61 q195 (fun a38 => ?_)
  refine Ex_pVF dX2_init_63 lkf_X2_47 rfl rfl rfl rfl rfl rfl ?_
  refine Ex_aload_n dX2_init_66 rfl 0 rfl ?_
  refine Ex_iconst (v := 5) dX2_init_67 (by decide) ?_
  refine Ex_nA_i dX2_init_68 q195 (fun a39 => ?_)
  refine Ex_pVF dX2_init_70 lkf_X2_51 rfl rfl rfl rfl rfl rfl ?_
  refine Ex_aload_n dX2_init_73 rfl 0 rfl ?_
  refine Ex_iconst (v := 5) dX2_init_74 (by decide) ?_
  refine Ex_nA_i dX2_init_75 q195 (fun a40 => ?_)
  refine Ex_pVF dX2_init_77 lkf_X2_54 rfl rfl rfl rfl rfl rfl ?_
  refine Ex_aload_n dX2_init_80 rfl 0 rfl ?_
  refine Ex_nO (ci := 21) (q := qcl 21) dX2_init_81 rfl q174 q120 q48 (fun a41 => ?_)
  refine Ex_dup rfl dX2_init_84 ?_
  refine Ex_bnU (Inv_I (L_J2_init hG a41) q48 q175 q122 q123 rfl hm_J2_init (by decide) (by decide) dX2_init_85 rfl (Nat.le_of_ble_eq_true rfl)) (fun _ => ?_)
  refine Ex_pVF dX2_init_88 lkf_X2_57 rfl rfl rfl rfl rfl rfl ?_
  refine Ex_aload_n dX2_init_91 rfl 0 rfl ?_
  refine Ex_iload_n dX2_init_92 rfl 2 rfl ?_
  refine Ex_pVF dX2_init_93 lkf_X2_60 rfl rfl rfl rfl rfl rfl ?_
  refine Ex_aload_n dX2_init_96 rfl 0 rfl ?_
  refine Ex_nO (ci := 4) (q := qcl 4) dX2_init_97 rfl q197 q198 q53 (fun a42 => ?_)
  refine Ex_dup rfl dX2_init_100 ?_
  refine Ex_iconst (v := 0) dX2_init_101 (by decide) ?_
  refine Ex_iconst (v := 0) dX2_init_102 (by decide) ?_
  refine Ex_aload_n dX2_init_103 rfl 3 rfl ?_
  refine Ex_nO (ci := 3) (q := qcl 3) dX2_init_104 rfl q176 q177 q52 (fun a43 => ?_)
  refine Ex_dup rfl dX2_init_107 ?_
  refine Ex_bnU (Inv_I (L_X4_init hG a43) q52 q178 q179 q180 rfl hm_X4_init (by decide) (by decide) dX2_init_108 rfl (Nat.le_of_ble_eq_true rfl)) (fun _ => ?_)
  refine Ex_bnU (Inv_I (L_X5_init hG a42 0 0 a3 a43) q53 q199 q200 q201 rfl hm_X5_init (by decide) (by decide) dX2_init_111 rfl (Nat.le_of_ble_eq_true rfl)) (fun _ => ?_)
  refine Ex_pV dX2_init_114 lk_X2_68 rfl rfl rfl rfl ?_
  exact Ex_vreturn dX2_init_117 rfl
-- QuorumAlmanac.<init>(I)V
def m_X1_init (a0 : Nat) (x1 : Int32) : Ms Unit :=
  gsR 10 fun x38 =>
  pV [1] 102 a0 (.ref x38) <|
  gsR 11 fun x39 =>
  pV [1] 103 a0 (.ref x39) <|
  nA 33 5 .null fun a40 =>
  pV [1] 104 a0 (.ref a40) <|
  nO 22 3 dfl fun a41 =>
  bn (m_J2_init a41) fun _ =>
  pV [1] 105 a0 (.ref a41) <|
  nO 22 3 dfl fun a42 =>
  bn (m_J2_init a42) fun _ =>
  pV [1] 106 a0 (.ref a42) <|
  nO 22 3 dfl fun a43 =>
  bn (m_J2_init a43) fun _ =>
  pV [1] 107 a0 (.ref a43) <|
  pV [1] 2 a0 (.int 1) <|
  pV [1] 3 a0 (.int 1) <|
  lp (fun j45 (v44 : Int32) =>
      if 5 ≤ v44 then
        rt ()
      else
        gR [1] 104 a0 fun x46 =>
        nO 2 22 dfl fun a47 =>
        nO 3 2 dfl fun a48 =>
        bn (m_X3_init a48 0 (iMax 1 (iMin 31 x1))) fun _ =>
        bn (m_X2_init a47 a0 v44 a48) fun _ =>
        sR 33 x46 v44 [2] a47 <|
        j45 (v44 + 1))
    0
theorem hm_X1_init : (yX1_init.cls ≠ "java/lang/invoke/MethodHandle" ∧ yX1_init.cls ≠ "java/lang/invoke/VarHandle" ∧ (parseMethodDescriptor yX1_init.desc).map (fun d => d.parameters.length) = some 1) := by decide +kernel
set_option maxHeartbeats 4000000 in
set_option maxRecDepth 100000 in
theorem L_X1_init {G : GT} (hG : GOK G) (a0 : Nat) (x1 : Int32) : Cal G yX1_init (ws_ yX1_init cX1_init 4 (Option.none : Option Jvm.ClassFile.FieldType)) 6 3080 [.ref a0, .int x1] rU (m_X1_init a0 x1) := by
  refine Cal_of hG (by decide +kernel) (Nat.le_of_ble_eq_true rfl) (lv0 := [(0, .ref a0), (1, .int x1)]) rfl (fun X σ0 => ?_)
  delta m_X1_init
  refine Ex_aload_n dX1_init_0 rfl 0 rfl ?_
  refine Ex_objInit dX1_init_1 q102 q103 q104 (by decide) (Nat.le_of_ble_eq_true rfl) ?_
  refine Ex_aload_n dX1_init_4 rfl 0 rfl ?_
  refine Ex_indy (i := 0) (by decide) rfl rfl rfl dX1_init_5 (Nat.le_of_ble_eq_true rfl) (fun x38 => ?_)
  refine Ex_pVF dX1_init_10 lkf_X1_23 rfl rfl rfl rfl rfl rfl ?_
  refine Ex_aload_n dX1_init_13 rfl 0 rfl ?_
  refine Ex_indy (i := 1) (by decide) rfl rfl rfl dX1_init_14 (Nat.le_of_ble_eq_true rfl) (fun x39 => ?_)
  refine Ex_pVF dX1_init_19 lkf_X1_30 rfl rfl rfl rfl rfl rfl ?_
  refine Ex_aload_n dX1_init_22 rfl 0 rfl ?_
  refine Ex_iconst (v := 5) dX1_init_23 (by decide) ?_
  refine Ex_nA_r (j := 3) dX1_init_24 rfl q117 q118 (fun a40 => ?_)
  refine Ex_pVF dX1_init_27 lkf_X1_35 rfl rfl rfl rfl rfl rfl ?_
  refine Ex_aload_n dX1_init_30 rfl 0 rfl ?_
  refine Ex_nO (ci := 21) (q := qcl 21) dX1_init_31 rfl q119 q120 q48 (fun a41 => ?_)
  refine Ex_dup rfl dX1_init_34 ?_
  refine Ex_bnU (Inv_I (L_J2_init hG a41) q48 q121 q122 q123 rfl hm_J2_init (by decide) (by decide) dX1_init_35 rfl (Nat.le_of_ble_eq_true rfl)) (fun _ => ?_)
  refine Ex_pVF dX1_init_38 lkf_X1_42 rfl rfl rfl rfl rfl rfl ?_
  refine Ex_aload_n dX1_init_41 rfl 0 rfl ?_
  refine Ex_nO (ci := 21) (q := qcl 21) dX1_init_42 rfl q119 q120 q48 (fun a42 => ?_)
  refine Ex_dup rfl dX1_init_45 ?_
  refine Ex_bnU (Inv_I (L_J2_init hG a42) q48 q121 q122 q123 rfl hm_J2_init (by decide) (by decide) dX1_init_46 rfl (Nat.le_of_ble_eq_true rfl)) (fun _ => ?_)
  refine Ex_pVF dX1_init_49 lkf_X1_46 rfl rfl rfl rfl rfl rfl ?_
  refine Ex_aload_n dX1_init_52 rfl 0 rfl ?_
  refine Ex_nO (ci := 21) (q := qcl 21) dX1_init_53 rfl q119 q120 q48 (fun a43 => ?_)
  refine Ex_dup rfl dX1_init_56 ?_
  refine Ex_bnU (Inv_I (L_J2_init hG a43) q48 q121 q122 q123 rfl hm_J2_init (by decide) (by decide) dX1_init_57 rfl (Nat.le_of_ble_eq_true rfl)) (fun _ => ?_)
  refine Ex_pVF dX1_init_60 lkf_X1_49 rfl rfl rfl rfl rfl rfl ?_
  refine Ex_aload_n dX1_init_63 rfl 0 rfl ?_
  refine Ex_iconst (v := 1) dX1_init_64 (by decide) ?_
  refine Ex_pV dX1_init_65 lk_X1_52 rfl rfl rfl rfl ?_
  refine Ex_aload_n dX1_init_68 rfl 0 rfl ?_
  refine Ex_iconst (v := 1) dX1_init_69 (by decide) ?_
  refine Ex_pV dX1_init_70 lk_X1_56 rfl rfl rfl rfl ?_
  refine Ex_iconst (v := 1) dX1_init_73 (by decide) ?_
  refine Ex_bipush (v := 31) dX1_init_74 (by decide) ?_
  refine Ex_iload_n dX1_init_76 rfl 1 rfl ?_
  refine Ex_mmin dX1_init_77 q148 q149 q49 q150 (by decide) (Nat.le_of_ble_eq_true rfl) ?_
  refine Ex_mmax dX1_init_80 q151 q152 q49 q153 (by decide) (Nat.le_of_ble_eq_true rfl) ?_
  refine Ex_istore_n (lv' := [(0, .ref a0), (1, .int x1), (2, .int (iMax 1 (iMin 31 x1)))]) dX1_init_83 rfl (by decide) [1, 2, 0] rfl ?_
  refine Ex_iconst (v := 0) dX1_init_84 (by decide) ?_
  refine Ex_istore_n (lv' := [(0, .ref a0), (1, .int x1), (2, .int (iMax 1 (iMin 31 x1))), (3, .int 0)]) dX1_init_85 rfl (by decide) [1, 2, 3, 0] rfl ?_
  refine Ex_lv [0, 2, 3] (lv' := [(0, .ref a0), (2, .int (iMax 1 (iMin 31 x1))), (3, .int 0)]) rfl ?_
  refine Ex_lp (γ := Int32) (pj := 86) (fun v44 => [(0, .ref a0), (2, .int (iMax 1 (iMin 31 x1))), (3, .int v44)]) (fun v44 => []) (fun j45 hj45 v44 => ?_) 0 rfl rfl
  refine Ex_iload_n dX1_init_86 rfl 2 rfl ?_
  refine Ex_iconst (v := 5) dX1_init_87 (by decide) ?_
  refine Ex_icmp_ge (tgt := 121) dX1_init_88 (by decide) ?_ ?_
  · exact Ex_vreturn dX1_init_121 rfl
  · refine Ex_aload_n dX1_init_91 rfl 0 rfl ?_
    refine Ex_gR dX1_init_92 lk_X1_35 rfl (fun x46 => ?_)
    refine Ex_iload_n dX1_init_95 rfl 2 rfl ?_
    refine Ex_nO (ci := 1) (q := qcl 1) dX1_init_96 rfl q117 q154 q50 (fun a47 => ?_)
    refine Ex_dup rfl dX1_init_99 ?_
    refine Ex_aload_n dX1_init_100 rfl 0 rfl ?_
    refine Ex_iload_n dX1_init_101 rfl 2 rfl ?_
    refine Ex_nO (ci := 2) (q := qcl 2) dX1_init_102 rfl q155 q156 q51 (fun a48 => ?_)
    refine Ex_dup rfl dX1_init_105 ?_
    refine Ex_iconst (v := 0) dX1_init_106 (by decide) ?_
    refine Ex_iload_n dX1_init_107 rfl 1 rfl ?_
    refine Ex_bnU (Inv_I (L_X3_init hG a48 0 (iMax 1 (iMin 31 x1))) q51 q157 q158 q159 rfl hm_X3_init (by decide) (by decide) dX1_init_108 rfl (Nat.le_of_ble_eq_true rfl)) (fun _ => ?_)
    refine Ex_bnU (Inv_I (L_X2_init hG a47 a0 v44 a48) q50 q170 q171 q172 rfl hm_X2_init (by decide) (by decide) dX1_init_111 rfl (Nat.le_of_ble_eq_true rfl)) (fun _ => ?_)
    refine Ex_sR (j := 3) rfl oc_QuorumAlmanac_Node_2 dX1_init_114 ?_
    refine Ex_iinc (j := 2) (lv' := [(0, .ref a0), (2, .int (iMax 1 (iMin 31 x1))), (3, .int (v44 + 1))]) dX1_init_115 rfl rfl (by decide) [1, 2, 0] rfl ?_
    refine Ex_goto (tgt := 86) dX1_init_118 (by decide) ?_
    exact hj45 (v44 + 1)
-- QuorumAlmanac.waiting()I
def m_X1_waiting (a0 : Nat) : Ms Int32 :=
  gR [1] 105 a0 fun x24 =>
  bn (ko [22] x24 (m_J2_size x24)) fun r25 =>
  rt r25
theorem hm_X1_waiting : (yX1_waiting.cls ≠ "java/lang/invoke/MethodHandle" ∧ yX1_waiting.cls ≠ "java/lang/invoke/VarHandle" ∧ (parseMethodDescriptor yX1_waiting.desc).map (fun d => d.parameters.length) = some 0) := by decide +kernel
set_option maxHeartbeats 4000000 in
set_option maxRecDepth 100000 in
theorem L_X1_waiting {G : GT} (hG : GOK G) (a0 : Nat) : Cal G yX1_waiting (ws_ yX1_waiting cX1_waiting 1 (Option.some Jvm.ClassFile.FieldType.int)) 3 80 [.ref a0] rI (m_X1_waiting a0) := by
  refine Cal_of hG (by decide +kernel) (Nat.le_of_ble_eq_true rfl) (lv0 := [(0, .ref a0)]) rfl (fun X σ0 => ?_)
  delta m_X1_waiting
  refine Ex_aload_n dX1_waiting_0 rfl 0 rfl ?_
  refine Ex_gR dX1_waiting_1 lk_X1_42 rfl (fun x24 => ?_)
  refine Ex_bnI (Inv_V (L_J2_size hG x24) (lw_V q348 q112 q113 q48 q114) oe_22 ⟨rfl, hm_J2_size⟩ (by decide) (by decide) dX1_waiting_4 rfl (Nat.le_of_ble_eq_true rfl)) (fun r25 => ?_)
  exact Ex_ireturn dX1_waiting_7 rfl
-- QuorumAlmanac.history()I
def m_X1_history (a0 : Nat) : Ms Int32 :=
  gR [1] 107 a0 fun x24 =>
  bn (ko [22] x24 (m_J2_size x24)) fun r25 =>
  rt r25
theorem hm_X1_history : (yX1_history.cls ≠ "java/lang/invoke/MethodHandle" ∧ yX1_history.cls ≠ "java/lang/invoke/VarHandle" ∧ (parseMethodDescriptor yX1_history.desc).map (fun d => d.parameters.length) = some 0) := by decide +kernel
set_option maxHeartbeats 4000000 in
set_option maxRecDepth 100000 in
theorem L_X1_history {G : GT} (hG : GOK G) (a0 : Nat) : Cal G yX1_history (ws_ yX1_history cX1_history 1 (Option.some Jvm.ClassFile.FieldType.int)) 3 80 [.ref a0] rI (m_X1_history a0) := by
  refine Cal_of hG (by decide +kernel) (Nat.le_of_ble_eq_true rfl) (lv0 := [(0, .ref a0)]) rfl (fun X σ0 => ?_)
  delta m_X1_history
  refine Ex_aload_n dX1_history_0 rfl 0 rfl ?_
  refine Ex_gR dX1_history_1 lk_X1_49 rfl (fun x24 => ?_)
  refine Ex_bnI (Inv_V (L_J2_size hG x24) (lw_V q348 q112 q113 q48 q114) oe_22 ⟨rfl, hm_J2_size⟩ (by decide) (by decide) dX1_history_4 rfl (Nat.le_of_ble_eq_true rfl)) (fun r25 => ?_)
  exact Ex_ireturn dX1_history_7 rfl
-- QuorumAlmanac.delivered()J
def m_X1_delivered (a0 : Nat) : Ms Int64 :=
  gJ [1] 154 a0 fun x22 =>
  rt x22
theorem hm_X1_delivered : (yX1_delivered.cls ≠ "java/lang/invoke/MethodHandle" ∧ yX1_delivered.cls ≠ "java/lang/invoke/VarHandle" ∧ (parseMethodDescriptor yX1_delivered.desc).map (fun d => d.parameters.length) = some 0) := by decide +kernel
set_option maxHeartbeats 4000000 in
set_option maxRecDepth 100000 in
theorem L_X1_delivered {G : GT} (hG : GOK G) (a0 : Nat) : Cal G yX1_delivered (ws_ yX1_delivered cX1_delivered 1 (Option.some Jvm.ClassFile.FieldType.long)) 2 60 [.ref a0] rJ (m_X1_delivered a0) := by
  refine Cal_of hG (by decide +kernel) (Nat.le_of_ble_eq_true rfl) (lv0 := [(0, .ref a0)]) rfl (fun X σ0 => ?_)
  delta m_X1_delivered
  refine Ex_aload_n dX1_delivered_0 rfl 0 rfl ?_
  refine Ex_gJ dX1_delivered_1 lk_X1_232 rfl (fun x22 => ?_)
  exact Ex_lreturn dX1_delivered_4 rfl
-- QuorumAlmanac.meanLast()D
def m_X1_meanLast (a0 : Nat) : Ms UInt64 :=
  gR [1] 104 a0 fun x30 =>
  aL 33 x30 fun x31 =>
  lp (fun j33 (v32 : Int32 × Int32) =>
      if x31 ≤ v32.2 then
        ck (FP.ddiv (FP.i2d v32.1) 4617315517961601024 &&& 0x7fffffffffffffff ≤ 0x7ff0000000000000) <|
        rt (FP.ddiv (FP.i2d v32.1) 4617315517961601024)
      else
        aR 33 x30 v32.2 fun x34 =>
        gR [1] 102 a0 fun x35 =>
        bn (mof m_X1_lambda_new_0 m_X1_lambda_new_1 x35 x34) fun r36 =>
        j33 ((v32.1 + r36), (v32.2 + 1)))
    (0, 0)
theorem hm_X1_meanLast : (yX1_meanLast.cls ≠ "java/lang/invoke/MethodHandle" ∧ yX1_meanLast.cls ≠ "java/lang/invoke/VarHandle" ∧ (parseMethodDescriptor yX1_meanLast.desc).map (fun d => d.parameters.length) = some 0) := by decide +kernel
set_option maxHeartbeats 4000000 in
set_option maxRecDepth 100000 in
theorem L_X1_meanLast {G : GT} (hG : GOK G) (a0 : Nat) : Cal G yX1_meanLast (ws_ yX1_meanLast cX1_meanLast 6 (Option.some Jvm.ClassFile.FieldType.double)) 6 141 [.ref a0] rD (m_X1_meanLast a0) := by
  refine Cal_of hG (by decide +kernel) (Nat.le_of_ble_eq_true rfl) (lv0 := [(0, .ref a0)]) rfl (fun X σ0 => ?_)
  delta m_X1_meanLast
  refine Ex_iconst (v := 0) dX1_meanLast_0 (by decide) ?_
  refine Ex_istore_n (lv' := [(0, .ref a0), (1, .int 0)]) dX1_meanLast_1 rfl (by decide) [1, 0] rfl ?_
  refine Ex_aload_n dX1_meanLast_2 rfl 0 rfl ?_
  refine Ex_gR dX1_meanLast_3 lk_X1_35 rfl (fun x30 => ?_)
  refine Ex_astore_n (lv' := [(0, .ref a0), (1, .int 0), (2, .ref x30)]) dX1_meanLast_6 rfl (by decide) [1, 2, 0] rfl ?_
  refine Ex_aload_n dX1_meanLast_7 rfl 2 rfl ?_
  refine Ex_aL (j := 3) rfl dX1_meanLast_8 (fun x31 => ?_)
  refine Ex_istore_n (lv' := [(0, .ref a0), (1, .int 0), (2, .ref x30), (3, .int x31)]) dX1_meanLast_9 rfl (by decide) [1, 2, 3, 0] rfl ?_
  refine Ex_iconst (v := 0) dX1_meanLast_10 (by decide) ?_
  refine Ex_istore (lv' := [(0, .ref a0), (1, .int 0), (2, .ref x30), (3, .int x31), (4, .int 0)]) dX1_meanLast_11 (by decide) [1, 2, 3, 4, 0] rfl ?_
  refine Ex_lp (γ := Int32 × Int32) (pj := 13) (fun v32 => [(0, .ref a0), (1, .int v32.1), (2, .ref x30), (3, .int x31), (4, .int v32.2)]) (fun v32 => []) (fun j33 hj33 v32 => ?_) (0, 0) rfl rfl
  refine Ex_iload dX1_meanLast_13 4 rfl ?_
  refine Ex_iload_n dX1_meanLast_15 rfl 3 rfl ?_
  refine Ex_icmp_ge (tgt := 45) dX1_meanLast_16 (by decide) ?_ ?_
  · refine Ex_iload_n dX1_meanLast_45 rfl 1 rfl ?_
    refine Ex_i2d dX1_meanLast_46 ?_
    refine Ex_ldc2d (v := 4617315517961601024) q365 dX1_meanLast_47 ?_
    refine Ex_ck (fun hne => ?_)
    refine Ex_ddiv hne dX1_meanLast_50 ?_
    exact Ex_dreturn dX1_meanLast_51 rfl
  · refine Ex_aload_n dX1_meanLast_19 rfl 2 rfl ?_
    refine Ex_iload dX1_meanLast_20 4 rfl ?_
    refine Ex_aR (j := 3) rfl rfl dX1_meanLast_22 (fun x34 => ?_)
    refine Ex_astore (lv' := [(0, .ref a0), (1, .int v32.1), (2, .ref x30), (3, .int x31), (4, .int v32.2), (5, .ref x34)]) dX1_meanLast_23 (by decide) [1, 2, 3, 4, 5, 0] rfl ?_
    refine Ex_iload_n dX1_meanLast_25 rfl 1 rfl ?_
    refine Ex_aload_n dX1_meanLast_26 rfl 0 rfl ?_
    refine Ex_gR dX1_meanLast_27 lk_X1_23 rfl (fun x35 => ?_)
    refine Ex_aload dX1_meanLast_30 5 rfl ?_
    refine Ex_bnI (Inv_of (L_X1_lambda_new_0 hG x34) (L_X1_lambda_new_1 hG x34) rfl rfl q362 q364 q363 q105 q115 q45 q106 q116 (by decide) (by decide) (by decide) (by decide) dX1_meanLast_32 (Nat.le_of_ble_eq_true rfl)) (fun r36 => ?_)
    refine Ex_iadd dX1_meanLast_37 ?_
    refine Ex_istore_n (lv' := [(0, .ref a0), (1, .int (v32.1 + r36)), (2, .ref x30), (3, .int x31), (4, .int v32.2), (5, .ref x34)]) dX1_meanLast_38 rfl (by decide) [1, 0, 2, 3, 4, 5] rfl ?_
    refine Ex_iinc (j := 4) (lv' := [(0, .ref a0), (1, .int (v32.1 + r36)), (2, .ref x30), (3, .int x31), (4, .int (v32.2 + 1)), (5, .ref x34)]) dX1_meanLast_39 rfl rfl (by decide) [1, 2, 3, 4, 0, 5] rfl ?_
    refine Ex_goto (tgt := 13) dX1_meanLast_42 (by decide) ?_
    refine Ex_lv [0, 1, 2, 3, 4] (lv' := [(0, .ref a0), (1, .int (v32.1 + r36)), (2, .ref x30), (3, .int x31), (4, .int (v32.2 + 1))]) rfl ?_
    exact hj33 ((v32.1 + r36), (v32.2 + 1))
-- QuorumAlmanac.hasOneLeaderATerm()Z
def m_X1_hasOneLeaderATerm (a0 : Nat) : Ms Int32 :=
  gR [1] 104 a0 fun x44 =>
  aL 33 x44 fun x45 =>
  lp (fun j47 (v46 : Int32 × Int32) =>
      if x45 ≤ v46.2 then
        ck (v46.1 = 0 ∨ v46.1 = 1) <|
        rt v46.1
      else
        aR 33 x44 v46.2 fun x48 =>
        gR [1] 104 a0 fun x49 =>
        aL 33 x49 fun x50 =>
        lp (fun j52 (v51 : Int32 × Int32) =>
            if x50 ≤ v51.2 then
              j47 (v51.1, (v46.2 + 1))
            else
              aR 33 x49 v51.2 fun x53 =>
              jn (fun (v54 : Int32) =>
                  j52 (v54, (v51.2 + 1)))
                fun j55 =>
                jn (fun (v56 : Unit) =>
                    j55 0)
                  fun j57 =>
                  if v51.1 = 0 then
                    j57 ()
                  else
                    jn (fun (v58 : Unit) =>
                        j55 1)
                      fun j59 =>
                      if (some x48) = (some x53) then
                        j59 ()
                      else
                        gI [2] 5 x48 fun x60 =>
                        if x60 = 0 then
                          j59 ()
                        else
                          gI [2] 5 x53 fun x61 =>
                          if x61 = 0 then
                            j59 ()
                          else
                            gI [2] 6 x48 fun x62 =>
                            if ¬ x62 = 108 then
                              j59 ()
                            else
                              gI [2] 6 x53 fun x63 =>
                              if ¬ x63 = 108 then
                                j59 ()
                              else
                                gI [2] 8 x48 fun x64 =>
                                gI [2] 8 x53 fun x65 =>
                                if x64 = x65 then
                                  j57 ()
                                else
                                  j59 ())
          (v46.1, 0))
    (1, 0)
theorem hm_X1_hasOneLeaderATerm : (yX1_hasOneLeaderATerm.cls ≠ "java/lang/invoke/MethodHandle" ∧ yX1_hasOneLeaderATerm.cls ≠ "java/lang/invoke/VarHandle" ∧ (parseMethodDescriptor yX1_hasOneLeaderATerm.desc).map (fun d => d.parameters.length) = some 0) := by decide +kernel
set_option maxHeartbeats 4000000 in
set_option maxRecDepth 100000 in
theorem L_X1_hasOneLeaderATerm {G : GT} (hG : GOK G) (a0 : Nat) : Cal G yX1_hasOneLeaderATerm (ws_ yX1_hasOneLeaderATerm cX1_hasOneLeaderATerm 10 (Option.some Jvm.ClassFile.FieldType.boolean)) 2 60 [.ref a0] rI (m_X1_hasOneLeaderATerm a0) := by
  refine Cal_of hG (by decide +kernel) (Nat.le_of_ble_eq_true rfl) (lv0 := [(0, .ref a0)]) rfl (fun X σ0 => ?_)
  delta m_X1_hasOneLeaderATerm
  refine Ex_iconst (v := 1) dX1_hasOneLeaderATerm_0 (by decide) ?_
  refine Ex_istore_n (lv' := [(0, .ref a0), (1, .int 1)]) dX1_hasOneLeaderATerm_1 rfl (by decide) [1, 0] rfl ?_
  refine Ex_aload_n dX1_hasOneLeaderATerm_2 rfl 0 rfl ?_
  refine Ex_gR dX1_hasOneLeaderATerm_3 lk_X1_35 rfl (fun x44 => ?_)
  refine Ex_astore_n (lv' := [(0, .ref a0), (1, .int 1), (2, .ref x44)]) dX1_hasOneLeaderATerm_6 rfl (by decide) [1, 2, 0] rfl ?_
  refine Ex_aload_n dX1_hasOneLeaderATerm_7 rfl 2 rfl ?_
  refine Ex_aL (j := 3) rfl dX1_hasOneLeaderATerm_8 (fun x45 => ?_)
  refine Ex_istore_n (lv' := [(0, .ref a0), (1, .int 1), (2, .ref x44), (3, .int x45)]) dX1_hasOneLeaderATerm_9 rfl (by decide) [1, 2, 3, 0] rfl ?_
  refine Ex_iconst (v := 0) dX1_hasOneLeaderATerm_10 (by decide) ?_
  refine Ex_istore (lv' := [(0, .ref a0), (1, .int 1), (2, .ref x44), (3, .int x45), (4, .int 0)]) dX1_hasOneLeaderATerm_11 (by decide) [1, 2, 3, 4, 0] rfl ?_
  refine Ex_lp (γ := Int32 × Int32) (pj := 13) (fun v46 => [(0, .ref a0), (1, .int v46.1), (2, .ref x44), (3, .int x45), (4, .int v46.2)]) (fun v46 => []) (fun j47 hj47 v46 => ?_) (1, 0) rfl rfl
  refine Ex_iload dX1_hasOneLeaderATerm_13 4 rfl ?_
  refine Ex_iload_n dX1_hasOneLeaderATerm_15 rfl 3 rfl ?_
  refine Ex_icmp_ge (tgt := 131) dX1_hasOneLeaderATerm_16 (by decide) ?_ ?_
  · refine Ex_iload_n dX1_hasOneLeaderATerm_131 rfl 1 rfl ?_
    refine Ex_ck (fun hz => ?_)
    exact Ex_zreturn dX1_hasOneLeaderATerm_132 rfl (zok_n hz)
  · refine Ex_aload_n dX1_hasOneLeaderATerm_19 rfl 2 rfl ?_
    refine Ex_iload dX1_hasOneLeaderATerm_20 4 rfl ?_
    refine Ex_aR (j := 3) rfl rfl dX1_hasOneLeaderATerm_22 (fun x48 => ?_)
    refine Ex_astore (lv' := [(0, .ref a0), (1, .int v46.1), (2, .ref x44), (3, .int x45), (4, .int v46.2), (5, .ref x48)]) dX1_hasOneLeaderATerm_23 (by decide) [1, 2, 3, 4, 5, 0] rfl ?_
    refine Ex_aload_n dX1_hasOneLeaderATerm_25 rfl 0 rfl ?_
    refine Ex_gR dX1_hasOneLeaderATerm_26 lk_X1_35 rfl (fun x49 => ?_)
    refine Ex_astore (lv' := [(0, .ref a0), (1, .int v46.1), (2, .ref x44), (3, .int x45), (4, .int v46.2), (5, .ref x48), (6, .ref x49)]) dX1_hasOneLeaderATerm_29 (by decide) [1, 2, 3, 4, 5, 6, 0] rfl ?_
    refine Ex_aload dX1_hasOneLeaderATerm_31 6 rfl ?_
    refine Ex_aL (j := 3) rfl dX1_hasOneLeaderATerm_33 (fun x50 => ?_)
    refine Ex_istore (lv' := [(0, .ref a0), (1, .int v46.1), (2, .ref x44), (3, .int x45), (4, .int v46.2), (5, .ref x48), (6, .ref x49), (7, .int x50)]) dX1_hasOneLeaderATerm_34 (by decide) [1, 2, 3, 4, 5, 6, 7, 0] rfl ?_
    refine Ex_iconst (v := 0) dX1_hasOneLeaderATerm_36 (by decide) ?_
    refine Ex_istore (lv' := [(0, .ref a0), (1, .int v46.1), (2, .ref x44), (3, .int x45), (4, .int v46.2), (5, .ref x48), (6, .ref x49), (7, .int x50), (8, .int 0)]) dX1_hasOneLeaderATerm_37 (by decide) [1, 2, 3, 4, 5, 6, 7, 8, 0] rfl ?_
    refine Ex_lp (γ := Int32 × Int32) (pj := 39) (fun v51 => [(0, .ref a0), (1, .int v51.1), (2, .ref x44), (3, .int x45), (4, .int v46.2), (5, .ref x48), (6, .ref x49), (7, .int x50), (8, .int v51.2)]) (fun v51 => []) (fun j52 hj52 v51 => ?_) (v46.1, 0) rfl rfl
    refine Ex_iload dX1_hasOneLeaderATerm_39 8 rfl ?_
    refine Ex_iload dX1_hasOneLeaderATerm_41 7 rfl ?_
    refine Ex_icmp_ge (tgt := 125) dX1_hasOneLeaderATerm_43 (by decide) ?_ ?_
    · refine Ex_iinc (j := 4) (lv' := [(0, .ref a0), (1, .int v51.1), (2, .ref x44), (3, .int x45), (4, .int (v46.2 + 1)), (5, .ref x48), (6, .ref x49), (7, .int x50), (8, .int v51.2)]) dX1_hasOneLeaderATerm_125 rfl rfl (by decide) [1, 2, 3, 4, 0, 5, 6, 7, 8] rfl ?_
      refine Ex_goto (tgt := 13) dX1_hasOneLeaderATerm_128 (by decide) ?_
      refine Ex_lv [0, 1, 2, 3, 4] (lv' := [(0, .ref a0), (1, .int v51.1), (2, .ref x44), (3, .int x45), (4, .int (v46.2 + 1))]) rfl ?_
      exact hj47 (v51.1, (v46.2 + 1))
    · refine Ex_aload dX1_hasOneLeaderATerm_46 6 rfl ?_
      refine Ex_iload dX1_hasOneLeaderATerm_48 8 rfl ?_
      refine Ex_aR (j := 3) rfl rfl dX1_hasOneLeaderATerm_50 (fun x53 => ?_)
      refine Ex_astore (lv' := [(0, .ref a0), (1, .int v51.1), (2, .ref x44), (3, .int x45), (4, .int v46.2), (5, .ref x48), (6, .ref x49), (7, .int x50), (8, .int v51.2), (9, .ref x53)]) dX1_hasOneLeaderATerm_51 (by decide) [1, 2, 3, 4, 5, 6, 7, 8, 9, 0] rfl ?_
      refine Ex_iload_n dX1_hasOneLeaderATerm_53 rfl 1 rfl ?_
      refine Ex_jn (γ := Int32) (pj := 118) (fun v54 => [(0, .ref a0), (2, .ref x44), (3, .int x45), (4, .int v46.2), (5, .ref x48), (6, .ref x49), (7, .int x50), (8, .int v51.2)]) (fun v54 => [.int v54]) (fun v54 => ?_) (fun j55 hj55 => ?_)
      · refine Ex_istore_n (lv' := [(0, .ref a0), (1, .int v54), (2, .ref x44), (3, .int x45), (4, .int v46.2), (5, .ref x48), (6, .ref x49), (7, .int x50), (8, .int v51.2)]) dX1_hasOneLeaderATerm_118 rfl (by decide) [1, 0, 2, 3, 4, 5, 6, 7, 8] rfl ?_
        refine Ex_iinc (j := 8) (lv' := [(0, .ref a0), (1, .int v54), (2, .ref x44), (3, .int x45), (4, .int v46.2), (5, .ref x48), (6, .ref x49), (7, .int x50), (8, .int (v51.2 + 1))]) dX1_hasOneLeaderATerm_119 rfl rfl (by decide) [1, 2, 3, 4, 5, 6, 7, 8, 0] rfl ?_
        refine Ex_goto (tgt := 39) dX1_hasOneLeaderATerm_122 (by decide) ?_
        exact hj52 (v54, (v51.2 + 1))
      · refine Ex_jn (γ := Unit) (pj := 117) (fun v56 => [(0, .ref a0), (2, .ref x44), (3, .int x45), (4, .int v46.2), (5, .ref x48), (6, .ref x49), (7, .int x50), (8, .int v51.2)]) (fun v56 => []) (fun v56 => ?_) (fun j57 hj57 => ?_)
        · refine Ex_iconst (v := 0) dX1_hasOneLeaderATerm_117 (by decide) ?_
          exact hj55 0
        · refine Ex_if_eq (tgt := 117) dX1_hasOneLeaderATerm_54 (by decide) ?_ ?_
          · refine Ex_lv [0, 2, 3, 4, 5, 6, 7, 8] (lv' := [(0, .ref a0), (2, .ref x44), (3, .int x45), (4, .int v46.2), (5, .ref x48), (6, .ref x49), (7, .int x50), (8, .int v51.2)]) rfl ?_
            exact hj57 ()
          · refine Ex_aload dX1_hasOneLeaderATerm_57 5 rfl ?_
            refine Ex_aload dX1_hasOneLeaderATerm_59 9 rfl ?_
            refine Ex_jn (γ := Unit) (pj := 113) (fun v58 => [(0, .ref a0), (2, .ref x44), (3, .int x45), (4, .int v46.2), (5, .ref x48), (6, .ref x49), (7, .int x50), (8, .int v51.2)]) (fun v58 => []) (fun v58 => ?_) (fun j59 hj59 => ?_)
            · refine Ex_iconst (v := 1) dX1_hasOneLeaderATerm_113 (by decide) ?_
              refine Ex_goto (tgt := 118) dX1_hasOneLeaderATerm_114 (by decide) ?_
              exact hj55 1
            · refine Ex_acmp_eq (rx := (some x48)) (ry := (some x53)) (tgt := 113) dX1_hasOneLeaderATerm_61 (by decide) ?_ ?_
              · refine Ex_lv [0, 2, 3, 4, 5, 6, 7, 8] (lv' := [(0, .ref a0), (2, .ref x44), (3, .int x45), (4, .int v46.2), (5, .ref x48), (6, .ref x49), (7, .int x50), (8, .int v51.2)]) rfl ?_
                exact hj59 ()
              · refine Ex_aload dX1_hasOneLeaderATerm_64 5 rfl ?_
                refine Ex_gI dX1_hasOneLeaderATerm_66 lk_X1_113 rfl (fun x60 => ?_)
                refine Ex_if_eq (tgt := 113) dX1_hasOneLeaderATerm_69 (by decide) ?_ ?_
                · refine Ex_lv [0, 2, 3, 4, 5, 6, 7, 8] (lv' := [(0, .ref a0), (2, .ref x44), (3, .int x45), (4, .int v46.2), (5, .ref x48), (6, .ref x49), (7, .int x50), (8, .int v51.2)]) rfl ?_
                  exact hj59 ()
                · refine Ex_aload dX1_hasOneLeaderATerm_72 9 rfl ?_
                  refine Ex_gI dX1_hasOneLeaderATerm_74 lk_X1_113 rfl (fun x61 => ?_)
                  refine Ex_if_eq (tgt := 113) dX1_hasOneLeaderATerm_77 (by decide) ?_ ?_
                  · refine Ex_lv [0, 2, 3, 4, 5, 6, 7, 8] (lv' := [(0, .ref a0), (2, .ref x44), (3, .int x45), (4, .int v46.2), (5, .ref x48), (6, .ref x49), (7, .int x50), (8, .int v51.2)]) rfl ?_
                    exact hj59 ()
                  · refine Ex_aload dX1_hasOneLeaderATerm_80 5 rfl ?_
                    refine Ex_gI dX1_hasOneLeaderATerm_82 lk_X1_152 rfl (fun x62 => ?_)
                    refine Ex_bipush (v := 108) dX1_hasOneLeaderATerm_85 (by decide) ?_
                    refine Ex_icmp_ne (tgt := 113) dX1_hasOneLeaderATerm_87 (by decide) ?_ ?_
                    · refine Ex_lv [0, 2, 3, 4, 5, 6, 7, 8] (lv' := [(0, .ref a0), (2, .ref x44), (3, .int x45), (4, .int v46.2), (5, .ref x48), (6, .ref x49), (7, .int x50), (8, .int v51.2)]) rfl ?_
                      exact hj59 ()
                    · refine Ex_aload dX1_hasOneLeaderATerm_90 9 rfl ?_
                      refine Ex_gI dX1_hasOneLeaderATerm_92 lk_X1_152 rfl (fun x63 => ?_)
                      refine Ex_bipush (v := 108) dX1_hasOneLeaderATerm_95 (by decide) ?_
                      refine Ex_icmp_ne (tgt := 113) dX1_hasOneLeaderATerm_97 (by decide) ?_ ?_
                      · refine Ex_lv [0, 2, 3, 4, 5, 6, 7, 8] (lv' := [(0, .ref a0), (2, .ref x44), (3, .int x45), (4, .int v46.2), (5, .ref x48), (6, .ref x49), (7, .int x50), (8, .int v51.2)]) rfl ?_
                        exact hj59 ()
                      · refine Ex_aload dX1_hasOneLeaderATerm_100 5 rfl ?_
                        refine Ex_gI dX1_hasOneLeaderATerm_102 lk_X1_253 rfl (fun x64 => ?_)
                        refine Ex_aload dX1_hasOneLeaderATerm_105 9 rfl ?_
                        refine Ex_gI dX1_hasOneLeaderATerm_107 lk_X1_253 rfl (fun x65 => ?_)
                        refine Ex_icmp_eq (tgt := 117) dX1_hasOneLeaderATerm_110 (by decide) ?_ ?_
                        · refine Ex_lv [0, 2, 3, 4, 5, 6, 7, 8] (lv' := [(0, .ref a0), (2, .ref x44), (3, .int x45), (4, .int v46.2), (5, .ref x48), (6, .ref x49), (7, .int x50), (8, .int v51.2)]) rfl ?_
                          exact hj57 ()
                        · refine Ex_lv [0, 2, 3, 4, 5, 6, 7, 8] (lv' := [(0, .ref a0), (2, .ref x44), (3, .int x45), (4, .int v46.2), (5, .ref x48), (6, .ref x49), (7, .int x50), (8, .int v51.2)]) rfl ?_
                          exact hj59 ()
-- java/util/AbstractMap.<init>()V
def m_J22_init (a0 : Nat) : Ms Unit :=
  rt ()
theorem hm_J22_init : (yJ22_init.cls ≠ "java/lang/invoke/MethodHandle" ∧ yJ22_init.cls ≠ "java/lang/invoke/VarHandle" ∧ (parseMethodDescriptor yJ22_init.desc).map (fun d => d.parameters.length) = some 0) := by decide +kernel
set_option maxHeartbeats 4000000 in
set_option maxRecDepth 100000 in
theorem L_J22_init {G : GT} (hG : GOK G) (a0 : Nat) : Cal G yJ22_init (ws_ yJ22_init cJ22_init 1 (Option.none : Option Jvm.ClassFile.FieldType)) 2 60 [.ref a0] rU (m_J22_init a0) := by
  refine Cal_of hG (by decide +kernel) (Nat.le_of_ble_eq_true rfl) (lv0 := [(0, .ref a0)]) rfl (fun X σ0 => ?_)
  delta m_J22_init
  refine Ex_aload_n dJ22_init_0 rfl 0 rfl ?_
  refine Ex_objInit dJ22_init_1 q386 q103 q104 (by decide) (Nat.le_of_ble_eq_true rfl) ?_
  exact Ex_vreturn dJ22_init_4 rfl
-- java/util/HashMap.<init>()V
def m_J23_init (a0 : Nat) : Ms Unit :=
  bn (m_J22_init a0) fun _ =>
  pV [25] 156 a0 (.float 1061158912) <|
  rt ()
theorem hm_J23_init : (yJ23_init.cls ≠ "java/lang/invoke/MethodHandle" ∧ yJ23_init.cls ≠ "java/lang/invoke/VarHandle" ∧ (parseMethodDescriptor yJ23_init.desc).map (fun d => d.parameters.length) = some 0) := by decide +kernel
set_option maxHeartbeats 4000000 in
set_option maxRecDepth 100000 in
theorem L_J23_init {G : GT} (hG : GOK G) (a0 : Nat) : Cal G yJ23_init (ws_ yJ23_init cJ23_init 1 (Option.none : Option Jvm.ClassFile.FieldType)) 3 80 [.ref a0] rU (m_J23_init a0) := by
  refine Cal_of hG (by decide +kernel) (Nat.le_of_ble_eq_true rfl) (lv0 := [(0, .ref a0)]) rfl (fun X σ0 => ?_)
  delta m_J23_init
  refine Ex_aload_n dJ23_init_0 rfl 0 rfl ?_
  refine Ex_bnU (Inv_I (L_J22_init hG a0) q91 q383 q384 q385 rfl hm_J22_init (by decide) (by decide) dJ23_init_1 rfl (Nat.le_of_ble_eq_true rfl)) (fun _ => ?_)
  refine Ex_aload_n dJ23_init_4 rfl 0 rfl ?_
  refine Ex_ldcf (v := 1061158912) q387 dJ23_init_5 ?_
  refine Ex_pVF dJ23_init_7 lkf_J23_81 rfl rfl rfl rfl rfl rfl ?_
  exact Ex_vreturn dJ23_init_10 rfl
-- QuorumAlmanac$Place.<init>(II)V
def m_X23_init (a0 : Nat) (x1 : Int32) (x2 : Int32) : Ms Unit :=
  pV [14] 48 a0 (.int x1) <|
  pV [14] 49 a0 (.int x2) <|
  rt ()
theorem hm_X23_init : (yX23_init.cls ≠ "java/lang/invoke/MethodHandle" ∧ yX23_init.cls ≠ "java/lang/invoke/VarHandle" ∧ (parseMethodDescriptor yX23_init.desc).map (fun d => d.parameters.length) = some 2) := by decide +kernel
set_option maxHeartbeats 4000000 in
set_option maxRecDepth 100000 in
theorem L_X23_init {G : GT} (hG : GOK G) (a0 : Nat) (x1 : Int32) (x2 : Int32) : Cal G yX23_init (ws_ yX23_init cX23_init 3 (Option.none : Option Jvm.ClassFile.FieldType)) 2 60 [.ref a0, .int x1, .int x2] rU (m_X23_init a0 x1 x2) := by
  refine Cal_of hG (by decide +kernel) (Nat.le_of_ble_eq_true rfl) (lv0 := [(0, .ref a0), (1, .int x1), (2, .int x2)]) rfl (fun X σ0 => ?_)
  delta m_X23_init
  refine Ex_aload_n dX23_init_0 rfl 0 rfl ?_
  refine Ex_objInit dX23_init_1 q434 q103 q104 (by decide) (Nat.le_of_ble_eq_true rfl) ?_
  refine Ex_aload_n dX23_init_4 rfl 0 rfl ?_
  refine Ex_iload_n dX23_init_5 rfl 1 rfl ?_
  refine Ex_pVF dX23_init_6 lkf_X23_7 rfl rfl rfl rfl rfl rfl ?_
  refine Ex_aload_n dX23_init_9 rfl 0 rfl ?_
  refine Ex_iload_n dX23_init_10 rfl 2 rfl ?_
  refine Ex_pVF dX23_init_11 lkf_X23_13 rfl rfl rfl rfl rfl rfl ?_
  exact Ex_vreturn dX23_init_14 rfl
-- QuorumAlmanac$Place.hashCode()I
def m_X23_hashCode (a0 : Nat) : Ms Int32 :=
  gI [14] 48 a0 fun x24 =>
  gI [14] 49 a0 fun x25 =>
  rt ((65536 * x24) + x25)
theorem hm_X23_hashCode : (yX23_hashCode.cls ≠ "java/lang/invoke/MethodHandle" ∧ yX23_hashCode.cls ≠ "java/lang/invoke/VarHandle" ∧ (parseMethodDescriptor yX23_hashCode.desc).map (fun d => d.parameters.length) = some 0) := by decide +kernel
set_option maxHeartbeats 4000000 in
set_option maxRecDepth 100000 in
theorem L_X23_hashCode {G : GT} (hG : GOK G) (a0 : Nat) : Cal G yX23_hashCode (ws_ yX23_hashCode cX23_hashCode 1 (Option.some Jvm.ClassFile.FieldType.int)) 2 60 [.ref a0] rI (m_X23_hashCode a0) := by
  refine Cal_of hG (by decide +kernel) (Nat.le_of_ble_eq_true rfl) (lv0 := [(0, .ref a0)]) rfl (fun X σ0 => ?_)
  delta m_X23_hashCode
  refine Ex_ldci (v := 65536) q463 dX23_hashCode_0 ?_
  refine Ex_aload_n dX23_hashCode_2 rfl 0 rfl ?_
  refine Ex_gI dX23_hashCode_3 lk_X23_7 rfl (fun x24 => ?_)
  refine Ex_imul dX23_hashCode_6 ?_
  refine Ex_aload_n dX23_hashCode_7 rfl 0 rfl ?_
  refine Ex_gI dX23_hashCode_8 lk_X23_13 rfl (fun x25 => ?_)
  refine Ex_iadd dX23_hashCode_11 ?_
  exact Ex_ireturn dX23_hashCode_12 rfl
-- java/util/HashMap.hash(Ljava/lang/Object;)I
def m_J23_hash (a0 : Nat) : Ms Int32 :=
  bn (ko [14] a0 (m_X23_hashCode a0)) fun r24 =>
  rt (r24 ^^^ (((r24 : Int32).toUInt32 >>> ((16 : Int32).toUInt32 &&& Int32.toUInt32 31)).toInt32))
theorem hm_J23_hash : (yJ23_hash.cls ≠ "java/lang/invoke/MethodHandle" ∧ yJ23_hash.cls ≠ "java/lang/invoke/VarHandle" ∧ (parseMethodDescriptor yJ23_hash.desc).map (fun d => d.parameters.length) = some 1) := by decide +kernel
set_option maxHeartbeats 4000000 in
set_option maxRecDepth 100000 in
theorem L_J23_hash {G : GT} (hG : GOK G) (a0 : Nat) : Cal G yJ23_hash (ws_ yJ23_hash cJ23_hash 2 (Option.some Jvm.ClassFile.FieldType.int)) 3 80 [.ref a0] rI (m_J23_hash a0) := by
  refine Cal_of hG (by decide +kernel) (Nat.le_of_ble_eq_true rfl) (lv0 := [(0, .ref a0)]) rfl (fun X σ0 => ?_)
  delta m_J23_hash
  refine Ex_aload_n dJ23_hash_0 rfl 0 rfl ?_
  refine lvx_ifnonnull (tgt := 8) dJ23_hash_1 (by decide) ?_
  refine Ex_aload_n dJ23_hash_8 rfl 0 rfl ?_
  refine Ex_bnI (Inv_U (L_X23_hashCode hG a0) q93 q450 q461 q462 q460 q452 q449 oe_14 hx_Object_hashCode (by decide) (by decide) dJ23_hash_9 rfl (Nat.le_of_ble_eq_true rfl)) (fun r24 => ?_)
  refine Ex_dup rfl dJ23_hash_12 ?_
  refine Ex_istore_n (lv' := [(0, .ref a0), (1, .int r24)]) dJ23_hash_13 rfl (by decide) [1, 0] rfl ?_
  refine Ex_iload_n dJ23_hash_14 rfl 1 rfl ?_
  refine Ex_bipush (v := 16) dJ23_hash_15 (by decide) ?_
  refine Ex_iushr dJ23_hash_17 ?_
  refine Ex_ixor dJ23_hash_18 ?_
  exact Ex_ireturn dJ23_hash_19 rfl
-- java/util/HashMap.afterNodeInsertion(Z)V
def m_J23_afterNodeInsertion (a0 : Nat) (x1 : Int32) : Ms Unit :=
  rt ()
theorem hm_J23_afterNodeInsertion : (yJ23_afterNodeInsertion.cls ≠ "java/lang/invoke/MethodHandle" ∧ yJ23_afterNodeInsertion.cls ≠ "java/lang/invoke/VarHandle" ∧ (parseMethodDescriptor yJ23_afterNodeInsertion.desc).map (fun d => d.parameters.length) = some 1) := by decide +kernel
set_option maxHeartbeats 4000000 in
set_option maxRecDepth 100000 in
theorem L_J23_afterNodeInsertion {G : GT} (hG : GOK G) (a0 : Nat) (x1 : Int32) : Cal G yJ23_afterNodeInsertion (ws_ yJ23_afterNodeInsertion cJ23_afterNodeInsertion 2 (Option.none : Option Jvm.ClassFile.FieldType)) 2 60 [.ref a0, .int x1] rU (m_J23_afterNodeInsertion a0 x1) := by
  refine Cal_of hG (by decide +kernel) (Nat.le_of_ble_eq_true rfl) (lv0 := [(0, .ref a0), (1, .int x1)]) rfl (fun X σ0 => ?_)
  delta m_J23_afterNodeInsertion
  exact Ex_vreturn dJ23_afterNodeInsertion_0 rfl
-- java/util/HashMap$Node.<init>(ILjava/lang/Object;Ljava/lang/Object;Ljava/util/HashMap$Node;)V
def m_J24_init (a0 : Nat) (x1 : Int32) (a2 : Nat) (a3 : Nat) (o4 : Option Nat) : Ms Unit :=
  pV [26] 101 a0 (.int x1) <|
  pV [26] 151 a0 (.ref a2) <|
  pV [26] 152 a0 (.ref a3) <|
  pV [26] 153 a0 (va_rf o4) <|
  rt ()
theorem hm_J24_init : (yJ24_init.cls ≠ "java/lang/invoke/MethodHandle" ∧ yJ24_init.cls ≠ "java/lang/invoke/VarHandle" ∧ (parseMethodDescriptor yJ24_init.desc).map (fun d => d.parameters.length) = some 4) := by decide +kernel
set_option maxHeartbeats 4000000 in
set_option maxRecDepth 100000 in
theorem L_J24_init {G : GT} (hG : GOK G) (a0 : Nat) (x1 : Int32) (a2 : Nat) (a3 : Nat) (o4 : Option Nat) : Cal G yJ24_init (ws_ yJ24_init cJ24_init 5 (Option.none : Option Jvm.ClassFile.FieldType)) 2 60 [.ref a0, .int x1, .ref a2, .ref a3, va_rf o4] rU (m_J24_init a0 x1 a2 a3 o4) := by
  refine Cal_of hG (by decide +kernel) (by cases o4 <;> exact Nat.le_of_ble_eq_true rfl) (lv0 := [(0, .ref a0), (1, .int x1), (2, .ref a2), (3, .ref a3), (4, va_rf o4)]) (by cases o4 <;> rfl) (fun X σ0 => ?_)
  delta m_J24_init
  refine Ex_aload_n dJ24_init_0 rfl 0 rfl ?_
  refine Ex_objInit dJ24_init_1 q521 q103 q104 (by decide) (Nat.le_of_ble_eq_true rfl) ?_
  refine Ex_aload_n dJ24_init_4 rfl 0 rfl ?_
  refine Ex_iload_n dJ24_init_5 rfl 1 rfl ?_
  refine Ex_pVF dJ24_init_6 lkf_J24_7 rfl rfl rfl rfl rfl rfl ?_
  refine Ex_aload_n dJ24_init_9 rfl 0 rfl ?_
  refine Ex_aload_n dJ24_init_10 rfl 2 rfl ?_
  refine Ex_pVF dJ24_init_11 lkf_J24_13 rfl rfl rfl rfl rfl rfl ?_
  refine Ex_aload_n dJ24_init_14 rfl 0 rfl ?_
  refine Ex_aload_n dJ24_init_15 rfl 3 rfl ?_
  refine Ex_pV dJ24_init_16 lk_J24_17 rfl rfl rfl rfl ?_
  refine Ex_aload_n dJ24_init_19 rfl 0 rfl ?_
  refine Ex_aloadO dJ24_init_20 4 rfl ?_
  refine Ex_pV dJ24_init_22 lk_J24_20 rfl rfl rfl (fits_rf _ _) ?_
  exact Ex_vreturn dJ24_init_25 rfl
-- java/util/HashMap.newNode(ILjava/lang/Object;Ljava/lang/Object;Ljava/util/HashMap$Node;)Ljava/util/HashMap$Node;
def m_J23_newNode (a0 : Nat) (x1 : Int32) (a2 : Nat) (a3 : Nat) (o4 : Option Nat) : Ms Nat :=
  nO 26 4 dfl fun a22 =>
  bn (m_J24_init a22 x1 a2 a3 o4) fun _ =>
  rt a22
theorem hm_J23_newNode : (yJ23_newNode.cls ≠ "java/lang/invoke/MethodHandle" ∧ yJ23_newNode.cls ≠ "java/lang/invoke/VarHandle" ∧ (parseMethodDescriptor yJ23_newNode.desc).map (fun d => d.parameters.length) = some 4) := by decide +kernel
set_option maxHeartbeats 4000000 in
set_option maxRecDepth 100000 in
theorem L_J23_newNode {G : GT} (hG : GOK G) (a0 : Nat) (x1 : Int32) (a2 : Nat) (a3 : Nat) (o4 : Option Nat) : Cal G yJ23_newNode (ws_ yJ23_newNode cJ23_newNode 5 (Option.some (Jvm.ClassFile.FieldType.object "java/util/HashMap$Node"))) 3 84 [.ref a0, .int x1, .ref a2, .ref a3, va_rf o4] rR (m_J23_newNode a0 x1 a2 a3 o4) := by
  refine Cal_of hG (by decide +kernel) (by cases o4 <;> exact Nat.le_of_ble_eq_true rfl) (lv0 := [(0, .ref a0), (1, .int x1), (2, .ref a2), (3, .ref a3), (4, va_rf o4)]) (by cases o4 <;> rfl) (fun X σ0 => ?_)
  delta m_J23_newNode
  refine Ex_nO (ci := 25) (q := qcl 25) dJ23_newNode_0 rfl q501 q517 q94 (fun a22 => ?_)
  refine Ex_dup rfl dJ23_newNode_3 ?_
  refine Ex_iload_n dJ23_newNode_4 rfl 1 rfl ?_
  refine Ex_aload_n dJ23_newNode_5 rfl 2 rfl ?_
  refine Ex_aload_n dJ23_newNode_6 rfl 3 rfl ?_
  refine Ex_aloadO dJ23_newNode_7 4 rfl ?_
  refine Ex_bnU (Inv_I (L_J24_init hG a22 x1 a2 a3 o4) q94 q518 q519 q520 rfl hm_J24_init (by decide) (by decide) dJ23_newNode_9 rfl (Nat.le_of_ble_eq_true rfl)) (fun _ => ?_)
  exact Ex_areturn dJ23_newNode_12 rfl (Or.inl ⟨_, rfl⟩)
-- java/util/HashMap.afterNodeAccess(Ljava/util/HashMap$Node;)V
def m_J23_afterNodeAccess (a0 : Nat) (a1 : Nat) : Ms Unit :=
  rt ()
theorem hm_J23_afterNodeAccess : (yJ23_afterNodeAccess.cls ≠ "java/lang/invoke/MethodHandle" ∧ yJ23_afterNodeAccess.cls ≠ "java/lang/invoke/VarHandle" ∧ (parseMethodDescriptor yJ23_afterNodeAccess.desc).map (fun d => d.parameters.length) = some 1) := by decide +kernel
set_option maxHeartbeats 4000000 in
set_option maxRecDepth 100000 in
theorem L_J23_afterNodeAccess {G : GT} (hG : GOK G) (a0 : Nat) (a1 : Nat) : Cal G yJ23_afterNodeAccess (ws_ yJ23_afterNodeAccess cJ23_afterNodeAccess 2 (Option.none : Option Jvm.ClassFile.FieldType)) 2 60 [.ref a0, .ref a1] rU (m_J23_afterNodeAccess a0 a1) := by
  refine Cal_of hG (by decide +kernel) (Nat.le_of_ble_eq_true rfl) (lv0 := [(0, .ref a0), (1, .ref a1)]) rfl (fun X σ0 => ?_)
  delta m_J23_afterNodeAccess
  exact Ex_vreturn dJ23_afterNodeAccess_0 rfl
-- QuorumAlmanac$Place.equals(Ljava/lang/Object;)Z
def m_X23_equals (a0 : Nat) (a1 : Nat) : Ms Int32 :=
  ko [14] a1 <|
  jn (fun (v28 : Int32) =>
      ck (v28 = 0 ∨ v28 = 1) <|
      rt v28)
    fun j29 =>
    jn (fun (v30 : Unit) =>
        j29 0)
      fun j31 =>
      if (1 : Int32) = 0 then
        j31 ()
      else
        ko [14] a1 <|
        gI [14] 48 a1 fun x32 =>
        gI [14] 48 a0 fun x33 =>
        if ¬ x32 = x33 then
          j31 ()
        else
          ko [14] a1 <|
          gI [14] 49 a1 fun x34 =>
          gI [14] 49 a0 fun x35 =>
          if ¬ x34 = x35 then
            j31 ()
          else
            j29 1
theorem hm_X23_equals : (yX23_equals.cls ≠ "java/lang/invoke/MethodHandle" ∧ yX23_equals.cls ≠ "java/lang/invoke/VarHandle" ∧ (parseMethodDescriptor yX23_equals.desc).map (fun d => d.parameters.length) = some 1) := by decide +kernel
set_option maxHeartbeats 4000000 in
set_option maxRecDepth 100000 in
theorem L_X23_equals {G : GT} (hG : GOK G) (a0 : Nat) (a1 : Nat) : Cal G yX23_equals (ws_ yX23_equals cX23_equals 2 (Option.some Jvm.ClassFile.FieldType.boolean)) 2 60 [.ref a0, .ref a1] rI (m_X23_equals a0 a1) := by
  refine Cal_of hG (by decide +kernel) (Nat.le_of_ble_eq_true rfl) (lv0 := [(0, .ref a0), (1, .ref a1)]) rfl (fun X σ0 => ?_)
  delta m_X23_equals
  refine Ex_aload_n dX23_equals_0 rfl 1 rfl ?_
  refine Ex_inst dX23_equals_1 q647 oc_QuorumAlmanac_Place_14 ?_
  refine Ex_jn (γ := Int32) (pj := 40) (fun v28 => []) (fun v28 => [.int v28]) (fun v28 => ?_) (fun j29 hj29 => ?_)
  · refine Ex_ck (fun hz => ?_)
    exact Ex_zreturn dX23_equals_40 rfl (zok_n hz)
  · refine Ex_jn (γ := Unit) (pj := 39) (fun v30 => []) (fun v30 => []) (fun v30 => ?_) (fun j31 hj31 => ?_)
    · refine Ex_iconst (v := 0) dX23_equals_39 (by decide) ?_
      exact hj29 0
    · refine Ex_if_eq (tgt := 39) dX23_equals_4 (by decide) ?_ ?_
      · refine Ex_lv [] (lv' := []) rfl ?_
        exact hj31 ()
      · refine Ex_aload_n dX23_equals_7 rfl 1 rfl ?_
        refine Ex_ko dX23_equals_8 q647 oc_QuorumAlmanac_Place_14 ?_
        refine Ex_gI dX23_equals_11 lk_X23_7 rfl (fun x32 => ?_)
        refine Ex_aload_n dX23_equals_14 rfl 0 rfl ?_
        refine Ex_gI dX23_equals_15 lk_X23_7 rfl (fun x33 => ?_)
        refine Ex_icmp_ne (tgt := 39) dX23_equals_18 (by decide) ?_ ?_
        · refine Ex_lv [] (lv' := []) rfl ?_
          exact hj31 ()
        · refine Ex_aload_n dX23_equals_21 rfl 1 rfl ?_
          refine Ex_ko dX23_equals_22 q647 oc_QuorumAlmanac_Place_14 ?_
          refine Ex_gI dX23_equals_25 lk_X23_13 rfl (fun x34 => ?_)
          refine Ex_aload_n dX23_equals_28 rfl 0 rfl ?_
          refine Ex_gI dX23_equals_29 lk_X23_13 rfl (fun x35 => ?_)
          refine Ex_icmp_ne (tgt := 39) dX23_equals_32 (by decide) ?_ ?_
          · refine Ex_lv [] (lv' := []) rfl ?_
            exact hj31 ()
          · refine Ex_iconst (v := 1) dX23_equals_35 (by decide) ?_
            refine Ex_goto (tgt := 40) dX23_equals_36 (by decide) ?_
            refine Ex_lv [] (lv' := []) rfl ?_
            exact hj29 1
-- java/util/HashMap.resize()[Ljava/util/HashMap$Node;
def m_J23_resize (a0 : Nat) : Ms Nat :=
  gO [25] 149 a0 fun x28 =>
  jn (fun (v29 : Int32) =>
      gI [25] 100 a0 fun x31 =>
      if v29 ≤ 0 then
        if x31 ≤ 0 then
          if ¬ (12 : Int32) = 0 then
            pV [25] 100 a0 (.int 12) <|
            nA 37 16 .null fun a32 =>
            pV [25] 149 a0 (.ref a32) <|
            no x28 (
              rt a32) fun a33 =>
              fl
          else
            fl
        else
          fl
      else
        fl)
    fun j30 =>
    no x28 (
      j30 0) fun a35 =>
      aL 37 a35 fun x37 =>
      j30 x37
theorem hm_J23_resize : (yJ23_resize.cls ≠ "java/lang/invoke/MethodHandle" ∧ yJ23_resize.cls ≠ "java/lang/invoke/VarHandle" ∧ (parseMethodDescriptor yJ23_resize.desc).map (fun d => d.parameters.length) = some 0) := by decide +kernel
set_option maxHeartbeats 4000000 in
set_option maxRecDepth 100000 in
theorem L_J23_resize {G : GT} (hG : GOK G) (a0 : Nat) : Cal G yJ23_resize (ws_ yJ23_resize cJ23_resize 14 (Option.some (Jvm.ClassFile.FieldType.array (Jvm.ClassFile.FieldType.object "java/util/HashMap$Node")))) 2 60 [.ref a0] rR (m_J23_resize a0) := by
  refine Cal_of hG (by decide +kernel) (Nat.le_of_ble_eq_true rfl) (lv0 := [(0, .ref a0)]) rfl (fun X σ0 => ?_)
  delta m_J23_resize
  refine Ex_aload_n dJ23_resize_0 rfl 0 rfl ?_
  refine Ex_gO dJ23_resize_1 lk_J23_105 rfl (fun x28 => ?_)
  refine Ex_astore_nO (lv' := [(0, .ref a0), (1, va_rf x28)]) dJ23_resize_4 rfl (by decide) [1, 0] rfl ?_
  refine Ex_aload_nO dJ23_resize_5 rfl 1 rfl ?_
  refine Ex_jn (γ := Int32) (pj := 15) (fun v29 => [(0, .ref a0), (1, va_rf x28)]) (fun v29 => [.int v29]) (fun v29 => ?_) (fun j30 hj30 => ?_)
  · refine Ex_istore_n (lv' := [(0, .ref a0), (1, va_rf x28), (2, .int v29)]) dJ23_resize_15 rfl (by decide) [1, 2, 0] (by cases hq_ : x28 <;> rfl) ?_
    refine Ex_aload_n dJ23_resize_16 rfl 0 rfl ?_
    refine Ex_gI dJ23_resize_17 lk_J23_88 rfl (fun x31 => ?_)
    refine Ex_istore_n (lv' := [(0, .ref a0), (1, va_rf x28), (2, .int v29), (3, .int x31)]) dJ23_resize_20 rfl (by decide) [1, 2, 3, 0] rfl ?_
    refine Ex_iconst (v := 0) dJ23_resize_21 (by decide) ?_
    refine Ex_istore (lv' := [(0, .ref a0), (1, va_rf x28), (2, .int v29), (3, .int x31), (5, .int 0)]) dJ23_resize_22 (by decide) [1, 2, 3, 4, 0] rfl ?_
    refine Ex_iload_n dJ23_resize_24 rfl 2 rfl ?_
    refine Ex_if_le (tgt := 67) dJ23_resize_25 (by decide) ?_ ?_
    · refine Ex_iload_n dJ23_resize_67 rfl 3 rfl ?_
      refine Ex_if_le (tgt := 77) dJ23_resize_68 (by decide) ?_ ?_
      · refine Ex_bipush (v := 16) dJ23_resize_77 (by decide) ?_
        refine Ex_istore (lv' := [(0, .ref a0), (1, va_rf x28), (2, .int v29), (3, .int x31), (4, .int 16), (5, .int 0)]) dJ23_resize_79 (by decide) [1, 2, 3, 4, 0, 5] rfl ?_
        refine Ex_bipush (v := 12) dJ23_resize_81 (by decide) ?_
        refine Ex_istore (lv' := [(0, .ref a0), (1, va_rf x28), (2, .int v29), (3, .int x31), (4, .int 16), (5, .int 12)]) dJ23_resize_83 (by decide) [1, 2, 3, 4, 5, 0] rfl ?_
        refine Ex_iload dJ23_resize_85 5 rfl ?_
        refine Ex_if_ne (tgt := 125) dJ23_resize_87 (by decide) ?_ ?_
        · refine Ex_aload_n dJ23_resize_125 rfl 0 rfl ?_
          refine Ex_iload dJ23_resize_126 5 rfl ?_
          refine Ex_pV dJ23_resize_128 lk_J23_88 rfl rfl rfl rfl ?_
          refine Ex_iload dJ23_resize_131 4 rfl ?_
          refine Ex_nA_r (j := 7) dJ23_resize_133 rfl q501 q502 (fun a32 => ?_)
          refine Ex_astore (lv' := [(0, .ref a0), (1, va_rf x28), (2, .int v29), (3, .int x31), (4, .int 16), (5, .int 12), (6, .ref a32)]) dJ23_resize_136 (by decide) [1, 2, 3, 4, 5, 6, 0] rfl ?_
          refine Ex_aload_n dJ23_resize_138 rfl 0 rfl ?_
          refine Ex_aload dJ23_resize_139 6 rfl ?_
          refine Ex_pV dJ23_resize_141 lk_J23_105 rfl rfl rfl rfl ?_
          refine Ex_aload_nO dJ23_resize_144 rfl 1 rfl ?_
          rcases x28 with _ | a33
          · refine Ex_no_ifnullN (tgt := 353) dJ23_resize_145 (by decide) ?_
            refine Ex_aload dJ23_resize_353 6 rfl ?_
            exact Ex_areturn dJ23_resize_355 rfl (Or.inr ⟨_, rfl⟩)
          · refine Ex_no_ifnullR dJ23_resize_145 ?_
            exact Ex_fl
        · exact Ex_fl
      · exact Ex_fl
    · exact Ex_fl
  · rcases x28 with _ | a35
    · refine Ex_no_ifnonnullN dJ23_resize_6 ?_
      refine Ex_iconst (v := 0) dJ23_resize_9 (by decide) ?_
      refine Ex_goto (tgt := 15) dJ23_resize_10 (by decide) ?_
      exact hj30 0
    · refine Ex_no_ifnonnullR (tgt := 13) dJ23_resize_6 (by decide) ?_
      refine Ex_aload_n dJ23_resize_13 rfl 1 rfl ?_
      refine Ex_aL (j := 7) rfl dJ23_resize_14 (fun x37 => ?_)
      exact hj30 x37
-- java/util/HashMap.putVal(ILjava/lang/Object;Ljava/lang/Object;ZZ)Ljava/lang/Object;
def m_J23_putVal (a0 : Nat) (x1 : Int32) (a2 : Nat) (a3 : Nat) (x4 : Int32) (x5 : Int32) : Ms (Option Nat) :=
  gO [25] 149 a0 fun x72 =>
  jn (fun (v73 : Nat × Int32) =>
      aO 37 v73.1 ((v73.2 - 1) &&& x1) fun x75 =>
      jn (fun (v76 : Unit) =>
          gI [25] 99 a0 fun x78 =>
          pV [25] 99 a0 (.int (x78 + 1)) <|
          gI [25] 98 a0 fun x79 =>
          pV [25] 98 a0 (.int (x79 + 1)) <|
          gI [25] 100 a0 fun x80 =>
          if (x79 + 1) ≤ x80 then
            bn (ko [25] a0 (m_J23_afterNodeInsertion a0 x5)) fun _ =>
            rt none
          else
            fl)
        fun j77 =>
        no x75 (
          bn (ko [25] a0 (m_J23_newNode a0 x1 a2 a3 none)) fun r83 =>
          sR 37 v73.1 ((v73.2 - 1) &&& x1) [26] r83 <|
          j77 ()) fun a81 =>
          gI [26] 101 a81 fun x84 =>
          jn (fun (v85 : Unit) =>
              fl)
            fun j86 =>
            if ¬ x84 = x1 then
              j86 ()
            else
              gR [26] 151 a81 fun x87 =>
              jn (fun (v88 : Unit) =>
                  gO [26] 152 a81 fun x90 =>
                  jn (fun (v91 : Unit) =>
                      bn (ko [25] a0 (m_J23_afterNodeAccess a0 a81)) fun _ =>
                      rt x90)
                    fun j92 =>
                    jn (fun (v93 : Unit) =>
                        pV [26] 152 a81 (.ref a3) <|
                        j92 ())
                      fun j94 =>
                      if x4 = 0 then
                        j94 ()
                      else
                        no x90 (
                          j94 ()) fun a95 =>
                          j92 ())
                fun j89 =>
                if (some x87) = (some a2) then
                  j89 ()
                else
                  bn (ko [14] a2 (m_X23_equals a2 x87)) fun r97 =>
                  if r97 = 0 then
                    j86 ()
                  else
                    j89 ())
    fun j74 =>
    jn (fun (v98 : Unit) =>
        bn (ko [25] a0 (m_J23_resize a0)) fun r100 =>
        aL 37 r100 fun x101 =>
        j74 (r100, x101))
      fun j99 =>
      no x72 (
        j99 ()) fun a102 =>
        aL 37 a102 fun x104 =>
        if ¬ x104 = 0 then
          j74 (a102, x104)
        else
          j99 ()
theorem hm_J23_putVal : (yJ23_putVal.cls ≠ "java/lang/invoke/MethodHandle" ∧ yJ23_putVal.cls ≠ "java/lang/invoke/VarHandle" ∧ (parseMethodDescriptor yJ23_putVal.desc).map (fun d => d.parameters.length) = some 5) := by decide +kernel
set_option maxHeartbeats 4000000 in
set_option maxRecDepth 100000 in
theorem L_J23_putVal {G : GT} (hG : GOK G) (a0 : Nat) (x1 : Int32) (a2 : Nat) (a3 : Nat) (x4 : Int32) (x5 : Int32) : Cal G yJ23_putVal (ws_ yJ23_putVal cJ23_putVal 13 (Option.some (Jvm.ClassFile.FieldType.object "java/lang/Object"))) 4 108 [.ref a0, .int x1, .ref a2, .ref a3, .int x4, .int x5] rO (m_J23_putVal a0 x1 a2 a3 x4 x5) := by
  refine Cal_of hG (by decide +kernel) (Nat.le_of_ble_eq_true rfl) (lv0 := [(0, .ref a0), (1, .int x1), (2, .ref a2), (3, .ref a3), (4, .int x4), (5, .int x5)]) rfl (fun X σ0 => ?_)
  delta m_J23_putVal
  refine Ex_aload_n dJ23_putVal_0 rfl 0 rfl ?_
  refine Ex_gO dJ23_putVal_1 lk_J23_105 rfl (fun x72 => ?_)
  refine Ex_dup (va_rf_cat _) dJ23_putVal_4 ?_
  refine Ex_astoreO (lv' := [(0, .ref a0), (1, .int x1), (2, .ref a2), (3, .ref a3), (4, .int x4), (5, .int x5), (6, va_rf x72)]) dJ23_putVal_5 (by decide) [1, 2, 3, 4, 5, 6, 0] rfl ?_
  refine Ex_jn (γ := Nat × Int32) (pj := 29) (fun v73 => [(0, .ref a0), (1, .int x1), (2, .ref a2), (3, .ref a3), (4, .int x4), (5, .int x5), (6, .ref v73.1), (8, .int v73.2)]) (fun v73 => []) (fun v73 => ?_) (fun j74 hj74 => ?_)
  · refine Ex_aload dJ23_putVal_29 6 rfl ?_
    refine Ex_iload dJ23_putVal_31 7 rfl ?_
    refine Ex_iconst (v := 1) dJ23_putVal_33 (by decide) ?_
    refine Ex_isub dJ23_putVal_34 ?_
    refine Ex_iload_n dJ23_putVal_35 rfl 1 rfl ?_
    refine Ex_iand dJ23_putVal_36 ?_
    refine Ex_dup rfl dJ23_putVal_37 ?_
    refine Ex_istore (lv' := [(0, .ref a0), (1, .int x1), (2, .ref a2), (3, .ref a3), (4, .int x4), (5, .int x5), (6, .ref v73.1), (8, .int v73.2), (9, .int ((v73.2 - 1) &&& x1))]) dJ23_putVal_38 (by decide) [1, 2, 3, 4, 5, 6, 7, 8, 0] rfl ?_
    refine Ex_aO (j := 7) rfl rfl dJ23_putVal_40 (fun x75 => ?_)
    refine Ex_dup (va_rf_cat _) dJ23_putVal_41 ?_
    refine Ex_astoreO (lv' := [(0, .ref a0), (1, .int x1), (2, .ref a2), (3, .ref a3), (4, .int x4), (5, .int x5), (6, .ref v73.1), (7, va_rf x75), (8, .int v73.2), (9, .int ((v73.2 - 1) &&& x1))]) dJ23_putVal_42 (by decide) [1, 2, 3, 4, 5, 6, 7, 0, 8, 9] rfl ?_
    refine Ex_jn (γ := Unit) (pj := 259) (fun v76 => [(0, .ref a0), (5, .int x5)]) (fun v76 => []) (fun v76 => ?_) (fun j77 hj77 => ?_)
    · refine Ex_aload_n dJ23_putVal_259 rfl 0 rfl ?_
      refine Ex_dup rfl dJ23_putVal_260 ?_
      refine Ex_gI dJ23_putVal_261 lk_J23_202 rfl (fun x78 => ?_)
      refine Ex_iconst (v := 1) dJ23_putVal_264 (by decide) ?_
      refine Ex_iadd dJ23_putVal_265 ?_
      refine Ex_pV dJ23_putVal_266 lk_J23_202 rfl rfl rfl rfl ?_
      refine Ex_aload_n dJ23_putVal_269 rfl 0 rfl ?_
      refine Ex_dup rfl dJ23_putVal_270 ?_
      refine Ex_gI dJ23_putVal_271 lk_J23_156 rfl (fun x79 => ?_)
      refine Ex_iconst (v := 1) dJ23_putVal_274 (by decide) ?_
      refine Ex_iadd dJ23_putVal_275 ?_
      refine Ex_dup_x1 rfl rfl dJ23_putVal_276 ?_
      refine Ex_pV dJ23_putVal_277 lk_J23_156 rfl rfl rfl rfl ?_
      refine Ex_aload_n dJ23_putVal_280 rfl 0 rfl ?_
      refine Ex_gI dJ23_putVal_281 lk_J23_88 rfl (fun x80 => ?_)
      refine Ex_icmp_le (tgt := 292) dJ23_putVal_284 (by decide) ?_ ?_
      · refine Ex_aload_n dJ23_putVal_292 rfl 0 rfl ?_
        refine Ex_iload dJ23_putVal_293 1 rfl ?_
        refine Ex_bnU (Inv_V (L_J23_afterNodeInsertion hG a0 x5) (lw_V q738 q739 q740 q92 q741) oe_25 ⟨rfl, hm_J23_afterNodeInsertion⟩ (by decide) (by decide) dJ23_putVal_295 rfl (Nat.le_of_ble_eq_true rfl)) (fun _ => ?_)
        refine Ex_null dJ23_putVal_298 ?_
        exact Ex_oreturn (v := none) dJ23_putVal_299 rfl (Or.inl ⟨_, rfl⟩)
      · exact Ex_fl
    · rcases x75 with _ | a81
      · refine Ex_no_ifnonnullN dJ23_putVal_44 ?_
        refine Ex_aload dJ23_putVal_47 6 rfl ?_
        refine Ex_iload dJ23_putVal_49 9 rfl ?_
        refine Ex_aload_n dJ23_putVal_51 rfl 0 rfl ?_
        refine Ex_iload_n dJ23_putVal_52 rfl 1 rfl ?_
        refine Ex_aload_n dJ23_putVal_53 rfl 2 rfl ?_
        refine Ex_aload_n dJ23_putVal_54 rfl 3 rfl ?_
        refine Ex_null dJ23_putVal_55 ?_
        refine Ex_bnR (Inv_V (L_J23_newNode hG a0 x1 a2 a3 none) (lw_V q629 q630 q631 q92 q632) oe_25 ⟨rfl, hm_J23_newNode⟩ (by decide) (by decide) dJ23_putVal_56 rfl (Nat.le_of_ble_eq_true rfl)) (fun r83 => ?_)
        refine Ex_sR (j := 7) rfl oc_java_util_HashMap_Node_26 dJ23_putVal_59 ?_
        refine Ex_goto (tgt := 259) dJ23_putVal_60 (by decide) ?_
        refine Ex_lv [0, 5] (lv' := [(0, .ref a0), (5, .int x5)]) rfl ?_
        exact hj77 ()
      · refine Ex_no_ifnonnullR (tgt := 63) dJ23_putVal_44 (by decide) ?_
        refine Ex_aload dJ23_putVal_63 7 rfl ?_
        refine Ex_gI dJ23_putVal_65 lk_J23_168 rfl (fun x84 => ?_)
        refine Ex_iload_n dJ23_putVal_68 rfl 1 rfl ?_
        refine Ex_jn (γ := Unit) (pj := 104) (fun v85 => []) (fun v85 => []) (fun v85 => ?_) (fun j86 hj86 => ?_)
        · exact Ex_fl
        · refine Ex_icmp_ne (tgt := 104) dJ23_putVal_69 (by decide) ?_ ?_
          · refine Ex_lv [] (lv' := []) rfl ?_
            exact hj86 ()
          · refine Ex_aload dJ23_putVal_72 7 rfl ?_
            refine Ex_gR dJ23_putVal_74 lk_J23_170 rfl (fun x87 => ?_)
            refine Ex_dup rfl dJ23_putVal_77 ?_
            refine Ex_astore (lv' := [(0, .ref a0), (1, .int x1), (2, .ref a2), (3, .ref a3), (4, .int x4), (5, .int x5), (6, .ref v73.1), (7, .ref a81), (8, .int v73.2), (9, .int ((v73.2 - 1) &&& x1)), (11, .ref x87)]) dJ23_putVal_78 (by decide) [1, 2, 3, 4, 5, 6, 7, 8, 9, 10, 0] rfl ?_
            refine Ex_aload_n dJ23_putVal_80 rfl 2 rfl ?_
            refine Ex_jn (γ := Unit) (pj := 97) (fun v88 => [(0, .ref a0), (3, .ref a3), (4, .int x4), (5, .int x5), (7, .ref a81)]) (fun v88 => []) (fun v88 => ?_) (fun j89 hj89 => ?_)
            · refine Ex_aload dJ23_putVal_97 4 rfl ?_
              refine Ex_astore (lv' := [(0, .ref a0), (3, .ref a3), (4, .int x4), (5, .int x5), (7, .ref a81), (10, .ref a81)]) dJ23_putVal_99 (by decide) [1, 2, 3, 4, 5, 0] rfl ?_
              refine Ex_goto (tgt := 222) dJ23_putVal_101 (by decide) ?_
              refine Ex_aload dJ23_putVal_222 5 rfl ?_
              refine lvx_ifnull dJ23_putVal_224 ?_
              refine Ex_aload dJ23_putVal_227 5 rfl ?_
              refine Ex_gO dJ23_putVal_229 lk_J23_162 rfl (fun x90 => ?_)
              refine Ex_astoreO (lv' := [(0, .ref a0), (3, .ref a3), (4, .int x4), (5, .int x5), (7, .ref a81), (10, .ref a81), (12, va_rf x90)]) dJ23_putVal_232 (by decide) [1, 2, 3, 4, 5, 6, 0] rfl ?_
              refine Ex_iload dJ23_putVal_234 2 rfl ?_
              refine Ex_jn (γ := Unit) (pj := 250) (fun v91 => [(0, .ref a0), (10, .ref a81), (12, va_rf x90)]) (fun v91 => []) (fun v91 => ?_) (fun j92 hj92 => ?_)
              · refine Ex_aload_n dJ23_putVal_250 rfl 0 rfl ?_
                refine Ex_aload dJ23_putVal_251 1 rfl ?_
                refine Ex_bnU (Inv_V (L_J23_afterNodeAccess hG a0 a81) (lw_V q734 q735 q736 q92 q737) oe_25 ⟨rfl, hm_J23_afterNodeAccess⟩ (by decide) (by decide) dJ23_putVal_253 rfl (Nat.le_of_ble_eq_true rfl)) (fun _ => ?_)
                refine Ex_aloadO dJ23_putVal_256 2 rfl ?_
                exact Ex_oreturn dJ23_putVal_258 rfl (Or.inl ⟨_, rfl⟩)
              · refine Ex_jn (γ := Unit) (pj := 244) (fun v93 => [(0, .ref a0), (3, .ref a3), (10, .ref a81), (12, va_rf x90)]) (fun v93 => []) (fun v93 => ?_) (fun j94 hj94 => ?_)
                · refine Ex_aload dJ23_putVal_244 2 rfl ?_
                  refine Ex_aload_n dJ23_putVal_246 rfl 1 rfl ?_
                  refine Ex_pV dJ23_putVal_247 lk_J23_162 rfl rfl rfl rfl ?_
                  refine Ex_lv [0, 2, 3] (lv' := [(0, .ref a0), (10, .ref a81), (12, va_rf x90)]) rfl ?_
                  exact hj92 ()
                · refine Ex_if_eq (tgt := 244) dJ23_putVal_236 (by decide) ?_ ?_
                  · refine Ex_lv [0, 1, 5, 6] (lv' := [(0, .ref a0), (3, .ref a3), (10, .ref a81), (12, va_rf x90)]) rfl ?_
                    exact hj94 ()
                  · refine Ex_aloadO dJ23_putVal_239 6 rfl ?_
                    rcases x90 with _ | a95
                    · refine Ex_no_ifnonnullN dJ23_putVal_241 ?_
                      refine Ex_lv [0, 1, 5, 6] (lv' := [(0, .ref a0), (3, .ref a3), (10, .ref a81), (12, .null)]) rfl ?_
                      exact hj94 ()
                    · refine Ex_no_ifnonnullR (tgt := 250) dJ23_putVal_241 (by decide) ?_
                      refine Ex_lv [0, 5, 6] (lv' := [(0, .ref a0), (10, .ref a81), (12, .ref a95)]) rfl ?_
                      exact hj92 ()
            · refine Ex_acmp_eq (rx := (some x87)) (ry := (some a2)) (tgt := 97) dJ23_putVal_81 (by decide) ?_ ?_
              · refine Ex_lv [0, 3, 4, 5, 7] (lv' := [(0, .ref a0), (3, .ref a3), (4, .int x4), (5, .int x5), (7, .ref a81)]) rfl ?_
                exact hj89 ()
              · refine Ex_aload_n dJ23_putVal_84 rfl 2 rfl ?_
                refine lvx_ifnull dJ23_putVal_85 ?_
                refine Ex_aload_n dJ23_putVal_88 rfl 2 rfl ?_
                refine Ex_aload dJ23_putVal_89 10 rfl ?_
                refine Ex_bnI (Inv_U (L_X23_equals hG a2 x87) q93 q634 q645 q646 q644 q636 q633 oe_14 hx_Object_equals (by decide) (by decide) dJ23_putVal_91 rfl (Nat.le_of_ble_eq_true rfl)) (fun r97 => ?_)
                refine Ex_if_eq (tgt := 104) dJ23_putVal_94 (by decide) ?_ ?_
                · refine Ex_lv [] (lv' := []) rfl ?_
                  exact hj86 ()
                · refine Ex_lv [0, 3, 4, 5, 7] (lv' := [(0, .ref a0), (3, .ref a3), (4, .int x4), (5, .int x5), (7, .ref a81)]) rfl ?_
                  exact hj89 ()
  · refine Ex_jn (γ := Unit) (pj := 19) (fun v98 => [(0, .ref a0), (1, .int x1), (2, .ref a2), (3, .ref a3), (4, .int x4), (5, .int x5)]) (fun v98 => []) (fun v98 => ?_) (fun j99 hj99 => ?_)
    · refine Ex_aload_n dJ23_putVal_19 rfl 0 rfl ?_
      refine Ex_bnR (Inv_V (L_J23_resize hG a0) (lw_V q494 q495 q496 q92 q497) oe_25 ⟨rfl, hm_J23_resize⟩ (by decide) (by decide) dJ23_putVal_20 rfl (Nat.le_of_ble_eq_true rfl)) (fun r100 => ?_)
      refine Ex_dup rfl dJ23_putVal_23 ?_
      refine Ex_astore (lv' := [(0, .ref a0), (1, .int x1), (2, .ref a2), (3, .ref a3), (4, .int x4), (5, .int x5), (6, .ref r100)]) dJ23_putVal_24 (by decide) [1, 2, 3, 4, 5, 6, 0] rfl ?_
      refine Ex_aL (j := 7) rfl dJ23_putVal_26 (fun x101 => ?_)
      refine Ex_istore (lv' := [(0, .ref a0), (1, .int x1), (2, .ref a2), (3, .ref a3), (4, .int x4), (5, .int x5), (6, .ref r100), (8, .int x101)]) dJ23_putVal_27 (by decide) [1, 2, 3, 4, 5, 6, 7, 0] rfl ?_
      exact hj74 (r100, x101)
    · rcases x72 with _ | a102
      · refine Ex_no_ifnullN (tgt := 19) dJ23_putVal_7 (by decide) ?_
        refine Ex_lv [0, 1, 2, 3, 4, 5] (lv' := [(0, .ref a0), (1, .int x1), (2, .ref a2), (3, .ref a3), (4, .int x4), (5, .int x5)]) rfl ?_
        exact hj99 ()
      · refine Ex_no_ifnullR dJ23_putVal_7 ?_
        refine Ex_aload dJ23_putVal_10 6 rfl ?_
        refine Ex_aL (j := 7) rfl dJ23_putVal_12 (fun x104 => ?_)
        refine Ex_dup rfl dJ23_putVal_13 ?_
        refine Ex_istore (lv' := [(0, .ref a0), (1, .int x1), (2, .ref a2), (3, .ref a3), (4, .int x4), (5, .int x5), (6, .ref a102), (8, .int x104)]) dJ23_putVal_14 (by decide) [1, 2, 3, 4, 5, 6, 7, 0] rfl ?_
        refine Ex_if_ne (tgt := 29) dJ23_putVal_16 (by decide) ?_ ?_
        · exact hj74 (a102, x104)
        · refine Ex_lv [0, 1, 2, 3, 4, 5] (lv' := [(0, .ref a0), (1, .int x1), (2, .ref a2), (3, .ref a3), (4, .int x4), (5, .int x5)]) rfl ?_
          exact hj99 ()
