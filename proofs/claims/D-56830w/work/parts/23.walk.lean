-- QuorumAlmanac$Node.beginRound()V
def m_X2_beginRound (a0 : Nat) : Ms Unit :=
  gR [2] 114 a0 fun x44 =>
  gI [2] 7 a0 fun x45 =>
  bn (m_J14_valueOf x45) fun r46 =>
  bn (ko [22] x44 (m_J2_add x44 r46)) fun r47 =>
  gR [2] 114 a0 fun x48 =>
  bn (ko [22] x48 (m_J2_size x48)) fun r49 =>
  gR [2] 113 a0 fun x50 =>
  gI [2] 4 a0 fun x51 =>
  sV 30 x50 x51 (.int r49) <|
  lp (fun j53 (v52 : Int32) =>
      if 5 ≤ v52 then
        bn (ko [2] a0 (m_X2_readyReads a0)) fun _ =>
        rt ()
      else
        gI [2] 4 a0 fun x54 =>
        jn (fun (v55 : Unit) =>
            j53 (v52 + 1))
          fun j56 =>
          if v52 = x54 then
            j56 ()
          else
            bn (ko [2] a0 (m_X2_members a0)) fun r57 =>
            bn (ko [3] r57 (m_X3_all r57)) fun r58 =>
            bn (m_X1_isIn r58 v52) fun r59 =>
            if r59 = 0 then
              j56 ()
            else
              bn (ko [2] a0 (m_X2_sendRound a0 v52 r49)) fun _ =>
              j56 ())
    0
theorem hm_X2_beginRound : (yX2_beginRound.cls ≠ "java/lang/invoke/MethodHandle" ∧ yX2_beginRound.cls ≠ "java/lang/invoke/VarHandle" ∧ (parseMethodDescriptor yX2_beginRound.desc).map (fun d => d.parameters.length) = some 0) := by decide +kernel
set_option maxHeartbeats 4000000 in
set_option maxRecDepth 100000 in
theorem L_X2_beginRound {G : GT} (hG : GOK G) (a0 : Nat) : Cal G yX2_beginRound (ws_ yX2_beginRound cX2_beginRound 3 (Option.none : Option Jvm.ClassFile.FieldType)) 10 236 [.ref a0] rU (m_X2_beginRound a0) := by
  refine Cal_of hG (by decide +kernel) (Nat.le_of_ble_eq_true rfl) (lv0 := [(0, .ref a0)]) rfl (fun X σ0 => ?_)
  delta m_X2_beginRound
  refine Ex_aload_n dX2_beginRound_0 rfl 0 rfl ?_
  refine Ex_gR dX2_beginRound_1 lk_X2_57 rfl (fun x44 => ?_)
  refine Ex_aload_n dX2_beginRound_4 rfl 0 rfl ?_
  refine Ex_gI dX2_beginRound_5 lk_X2_186 rfl (fun x45 => ?_)
  refine Ex_bnR (Inv_S (L_J14_valueOf hG x45) (lw_S q933 q749 q68 q750) hm_J14_valueOf (by decide) (by decide) dX2_beginRound_8 rfl (Nat.le_of_ble_eq_true rfl)) (fun r46 => ?_)
  refine Ex_bnI (Inv_V (L_J2_add hG x44 r46) (lw_V q934 q935 q936 q48 q937) oe_22 ⟨rfl, hm_J2_add⟩ (by decide) (by decide) dX2_beginRound_11 rfl (Nat.le_of_ble_eq_true rfl)) (fun r47 => ?_)
  refine Ex_pop rfl dX2_beginRound_14 ?_
  refine Ex_aload_n dX2_beginRound_15 rfl 0 rfl ?_
  refine Ex_gR dX2_beginRound_16 lk_X2_57 rfl (fun x48 => ?_)
  refine Ex_bnI (Inv_V (L_J2_size hG x48) (lw_V q111 q112 q113 q48 q114) oe_22 ⟨rfl, hm_J2_size⟩ (by decide) (by decide) dX2_beginRound_19 rfl (Nat.le_of_ble_eq_true rfl)) (fun r49 => ?_)
  refine Ex_istore_n (lv' := [(0, .ref a0), (1, .int r49)]) dX2_beginRound_22 rfl (by decide) [1, 0] rfl ?_
  refine Ex_aload_n dX2_beginRound_23 rfl 0 rfl ?_
  refine Ex_gR dX2_beginRound_24 lk_X2_54 rfl (fun x50 => ?_)
  refine Ex_aload_n dX2_beginRound_27 rfl 0 rfl ?_
  refine Ex_gI dX2_beginRound_28 lk_X2_60 rfl (fun x51 => ?_)
  refine Ex_iload_n dX2_beginRound_31 rfl 1 rfl ?_
  refine Ex_iast dX2_beginRound_32 ?_
  refine Ex_iconst (v := 0) dX2_beginRound_33 (by decide) ?_
  refine Ex_istore_n (lv' := [(0, .ref a0), (1, .int r49), (2, .int 0)]) dX2_beginRound_34 rfl (by decide) [1, 2, 0] rfl ?_
  refine Ex_lp (γ := Int32) (pj := 35) (fun v52 => [(0, .ref a0), (1, .int r49), (2, .int v52)]) (fun v52 => []) (fun j53 hj53 v52 => ?_) 0 rfl rfl
  refine Ex_iload_n dX2_beginRound_35 rfl 2 rfl ?_
  refine Ex_iconst (v := 5) dX2_beginRound_36 (by decide) ?_
  refine Ex_icmp_ge (tgt := 74) dX2_beginRound_37 (by decide) ?_ ?_
  · refine Ex_aload_n dX2_beginRound_74 rfl 0 rfl ?_
    refine Ex_bnU (Inv_V (L_X2_readyReads hG a0) (lw_V q1123 q1125 qs13 q50 q1126) oe_2 ⟨rfl, hm_X2_readyReads⟩ (by decide) (by decide) dX2_beginRound_75 rfl (Nat.le_of_ble_eq_true rfl)) (fun _ => ?_)
    exact Ex_vreturn dX2_beginRound_78 rfl
  · refine Ex_iload_n dX2_beginRound_40 rfl 2 rfl ?_
    refine Ex_aload_n dX2_beginRound_41 rfl 0 rfl ?_
    refine Ex_gI dX2_beginRound_42 lk_X2_60 rfl (fun x54 => ?_)
    refine Ex_jn (γ := Unit) (pj := 68) (fun v55 => [(0, .ref a0), (1, .int r49), (2, .int v52)]) (fun v55 => []) (fun v55 => ?_) (fun j56 hj56 => ?_)
    · refine Ex_iinc (j := 2) (lv' := [(0, .ref a0), (1, .int r49), (2, .int (v52 + 1))]) dX2_beginRound_68 rfl rfl (by decide) [1, 2, 0] rfl ?_
      refine Ex_goto (tgt := 35) dX2_beginRound_71 (by decide) ?_
      exact hj53 (v52 + 1)
    · refine Ex_icmp_eq (tgt := 68) dX2_beginRound_45 (by decide) ?_ ?_
      · exact hj56 ()
      · refine Ex_aload_n dX2_beginRound_48 rfl 0 rfl ?_
        refine Ex_bnR (Inv_V (L_X2_members hG a0) (lw_V q974 q975 q976 q50 q977) oe_2 ⟨rfl, hm_X2_members⟩ (by decide) (by decide) dX2_beginRound_49 rfl (Nat.le_of_ble_eq_true rfl)) (fun r57 => ?_)
        refine Ex_bnI (Inv_V (L_X3_all hG r57) (lw_V q981 q982 q983 q51 q984) oe_3 ⟨rfl, hm_X3_all⟩ (by decide) (by decide) dX2_beginRound_52 rfl (Nat.le_of_ble_eq_true rfl)) (fun r58 => ?_)
        refine Ex_iload_n dX2_beginRound_55 rfl 2 rfl ?_
        refine Ex_bnI (Inv_SN (L_X1_isIn hG r58 v52) q45 q985 q986 q987 hm_X1_isIn (by decide) (by decide) dX2_beginRound_56 rfl (Nat.le_of_ble_eq_true rfl)) (fun r59 => ?_)
        refine Ex_if_eq (tgt := 68) dX2_beginRound_59 (by decide) ?_ ?_
        · exact hj56 ()
        · refine Ex_aload_n dX2_beginRound_62 rfl 0 rfl ?_
          refine Ex_iload_n dX2_beginRound_63 rfl 2 rfl ?_
          refine Ex_iload_n dX2_beginRound_64 rfl 1 rfl ?_
          refine Ex_bnU (Inv_V (L_X2_sendRound hG a0 v52 r49) (lw_V q988 q990 qs9 q50 q991) oe_2 ⟨rfl, hm_X2_sendRound⟩ (by decide) (by decide) dX2_beginRound_65 rfl (Nat.le_of_ble_eq_true rfl)) (fun _ => ?_)
          exact hj56 ()
-- QuorumAlmanac$Entry.<init>(ICII)V
def m_X15_init (a0 : Nat) (x1 : Int32) (x2 : Int32) (x3 : Int32) (x4 : Int32) : Ms Unit :=
  pV [9] 32 a0 (.int x1) <|
  ck (0 ≤ Int32.toInt x2 ∧ Int32.toInt x2 < 65536) <|
  pV [9] 33 a0 (.int x2) <|
  pV [9] 34 a0 (.int x3) <|
  pV [9] 35 a0 (.int x4) <|
  rt ()
theorem hm_X15_init : (yX15_init.cls ≠ "java/lang/invoke/MethodHandle" ∧ yX15_init.cls ≠ "java/lang/invoke/VarHandle" ∧ (parseMethodDescriptor yX15_init.desc).map (fun d => d.parameters.length) = some 4) := by decide +kernel
set_option maxHeartbeats 4000000 in
set_option maxRecDepth 100000 in
theorem L_X15_init {G : GT} (hG : GOK G) (a0 : Nat) (x1 : Int32) (x2 : Int32) (x3 : Int32) (x4 : Int32) : Cal G yX15_init (ws_ yX15_init cX15_init 5 (Option.none : Option Jvm.ClassFile.FieldType)) 2 60 [.ref a0, .int x1, .int x2, .int x3, .int x4] rU (m_X15_init a0 x1 x2 x3 x4) := by
  refine Cal_of hG (by decide +kernel) (Nat.le_of_ble_eq_true rfl) (lv0 := [(0, .ref a0), (1, .int x1), (2, .int x2), (3, .int x3), (4, .int x4)]) rfl (fun X σ0 => ?_)
  delta m_X15_init
  refine Ex_aload_n dX15_init_0 rfl 0 rfl ?_
  refine Ex_objInit dX15_init_1 q1257 q103 q104 (by decide) (Nat.le_of_ble_eq_true rfl) ?_
  refine Ex_aload_n dX15_init_4 rfl 0 rfl ?_
  refine Ex_iload_n dX15_init_5 rfl 1 rfl ?_
  refine Ex_pVF dX15_init_6 lkf_X15_7 rfl rfl rfl rfl rfl rfl ?_
  refine Ex_aload_n dX15_init_9 rfl 0 rfl ?_
  refine Ex_iload_n dX15_init_10 rfl 2 rfl ?_
  refine Ex_ck (fun hz => ?_)
  refine Ex_pVF dX15_init_11 lkf_X15_13 rfl rfl rfl rfl (cok_n hz) (cok_f hz) ?_
  refine Ex_aload_n dX15_init_14 rfl 0 rfl ?_
  refine Ex_iload_n dX15_init_15 rfl 3 rfl ?_
  refine Ex_pVF dX15_init_16 lkf_X15_17 rfl rfl rfl rfl rfl rfl ?_
  refine Ex_aload_n dX15_init_19 rfl 0 rfl ?_
  refine Ex_iload dX15_init_20 4 rfl ?_
  refine Ex_pVF dX15_init_22 lkf_X15_20 rfl rfl rfl rfl rfl rfl ?_
  exact Ex_vreturn dX15_init_25 rfl
-- QuorumAlmanac$Node.winIfElected()V
def m_X2_winIfElected (a0 : Nat) : Ms Unit :=
  gI [2] 6 a0 fun x50 =>
  jn (fun (v51 : Unit) =>
      rt ())
    fun j52 =>
    if ¬ x50 = 99 then
      j52 ()
    else
      bn (ko [2] a0 (m_X2_members a0)) fun r53 =>
      gI [2] 17 a0 fun x54 =>
      bn (ko [3] r53 (m_X3_isMajority r53 x54)) fun r55 =>
      if ¬ r55 = 0 then
        pV [2] 6 a0 (.int 108) <|
        gI [2] 4 a0 fun x56 =>
        pV [2] 15 a0 (.int x56) <|
        gR [2] 114 a0 fun x57 =>
        bn (ko [22] x57 (m_J2_clear x57)) fun _ =>
        lp (fun j59 (v58 : Int32) =>
            if 5 ≤ v58 then
              bn (ko [2] a0 (m_X2_last a0)) fun r60 =>
              jn (fun (v61 : Unit) =>
                  bn (ko [2] a0 (m_X2_beginRound a0)) fun _ =>
                  rt ())
                fun j62 =>
                if 80 ≤ r60 then
                  j62 ()
                else
                  gR [2] 109 a0 fun x63 =>
                  nO 9 4 dfl fun a64 =>
                  gI [2] 8 a0 fun x65 =>
                  bn (m_X15_init a64 x65 111 0 0) fun _ =>
                  bn (ko [22] x63 (m_J2_add x63 a64)) fun r66 =>
                  j62 ()
            else
              gR [2] 111 a0 fun x67 =>
              bn (ko [2] a0 (m_X2_last a0)) fun r68 =>
              sV 30 x67 v58 (.int (r68 + 1)) <|
              gR [2] 112 a0 fun x69 =>
              sV 30 x69 v58 (.int 0) <|
              gR [2] 113 a0 fun x70 =>
              sV 30 x70 v58 (.int 0) <|
              j59 (v58 + 1))
          0
      else
        j52 ()
theorem hm_X2_winIfElected : (yX2_winIfElected.cls ≠ "java/lang/invoke/MethodHandle" ∧ yX2_winIfElected.cls ≠ "java/lang/invoke/VarHandle" ∧ (parseMethodDescriptor yX2_winIfElected.desc).map (fun d => d.parameters.length) = some 0) := by decide +kernel
set_option maxHeartbeats 4000000 in
set_option maxRecDepth 100000 in
theorem L_X2_winIfElected {G : GT} (hG : GOK G) (a0 : Nat) : Cal G yX2_winIfElected (ws_ yX2_winIfElected cX2_winIfElected 2 (Option.none : Option Jvm.ClassFile.FieldType)) 11 258 [.ref a0] rU (m_X2_winIfElected a0) := by
  refine Cal_of hG (by decide +kernel) (Nat.le_of_ble_eq_true rfl) (lv0 := [(0, .ref a0)]) rfl (fun X σ0 => ?_)
  delta m_X2_winIfElected
  refine Ex_aload_n dX2_winIfElected_0 rfl 0 rfl ?_
  refine Ex_gI dX2_winIfElected_1 lk_X2_19 rfl (fun x50 => ?_)
  refine Ex_bipush (v := 99) dX2_winIfElected_4 (by decide) ?_
  refine Ex_jn (γ := Unit) (pj := 23) (fun v51 => []) (fun v51 => []) (fun v51 => ?_) (fun j52 hj52 => ?_)
  · exact Ex_vreturn dX2_winIfElected_23 rfl
  · refine Ex_icmp_ne (tgt := 23) dX2_winIfElected_6 (by decide) ?_ ?_
    · refine Ex_lv [] (lv' := []) rfl ?_
      exact hj52 ()
    · refine Ex_aload_n dX2_winIfElected_9 rfl 0 rfl ?_
      refine Ex_bnR (Inv_V (L_X2_members hG a0) (lw_V q974 q975 q976 q50 q977) oe_2 ⟨rfl, hm_X2_members⟩ (by decide) (by decide) dX2_winIfElected_10 rfl (Nat.le_of_ble_eq_true rfl)) (fun r53 => ?_)
      refine Ex_aload_n dX2_winIfElected_13 rfl 0 rfl ?_
      refine Ex_gI dX2_winIfElected_14 lk_X2_196 rfl (fun x54 => ?_)
      refine Ex_bnI (Inv_V (L_X3_isMajority hG r53 x54) (lw_V q1135 q1136 q1137 q51 q1138) oe_3 ⟨rfl, hm_X3_isMajority⟩ (by decide) (by decide) dX2_winIfElected_17 rfl (Nat.le_of_ble_eq_true rfl)) (fun r55 => ?_)
      refine Ex_if_ne (tgt := 24) dX2_winIfElected_20 (by decide) ?_ ?_
      · refine Ex_aload_n dX2_winIfElected_24 rfl 0 rfl ?_
        refine Ex_bipush (v := 108) dX2_winIfElected_25 (by decide) ?_
        refine Ex_pV dX2_winIfElected_27 lk_X2_19 rfl rfl rfl rfl ?_
        refine Ex_aload_n dX2_winIfElected_30 rfl 0 rfl ?_
        refine Ex_aload_n dX2_winIfElected_31 rfl 0 rfl ?_
        refine Ex_gI dX2_winIfElected_32 lk_X2_60 rfl (fun x56 => ?_)
        refine Ex_pV dX2_winIfElected_35 lk_X2_44 rfl rfl rfl rfl ?_
        refine Ex_aload_n dX2_winIfElected_38 rfl 0 rfl ?_
        refine Ex_gR dX2_winIfElected_39 lk_X2_57 rfl (fun x57 => ?_)
        refine Ex_bnU (Inv_V (L_J2_clear hG x57) (lw_V q1249 q1250 q1251 q48 q1252) oe_22 ⟨rfl, hm_J2_clear⟩ (by decide) (by decide) dX2_winIfElected_42 rfl (Nat.le_of_ble_eq_true rfl)) (fun _ => ?_)
        refine Ex_iconst (v := 0) dX2_winIfElected_45 (by decide) ?_
        refine Ex_istore_n (lv' := [(0, .ref a0), (1, .int 0)]) dX2_winIfElected_46 rfl (by decide) [1, 0] rfl ?_
        refine Ex_lp (γ := Int32) (pj := 47) (fun v58 => [(0, .ref a0), (1, .int v58)]) (fun v58 => []) (fun j59 hj59 v58 => ?_) 0 rfl rfl
        refine Ex_iload_n dX2_winIfElected_47 rfl 1 rfl ?_
        refine Ex_iconst (v := 5) dX2_winIfElected_48 (by decide) ?_
        refine Ex_icmp_ge (tgt := 84) dX2_winIfElected_49 (by decide) ?_ ?_
        · refine Ex_aload_n dX2_winIfElected_84 rfl 0 rfl ?_
          refine Ex_bnI (Inv_V (L_X2_last hG a0) (lw_V q978 q108 q109 q50 q110) oe_2 ⟨rfl, hm_X2_last⟩ (by decide) (by decide) dX2_winIfElected_85 rfl (Nat.le_of_ble_eq_true rfl)) (fun r60 => ?_)
          refine Ex_bipush (v := 80) dX2_winIfElected_88 (by decide) ?_
          refine Ex_jn (γ := Unit) (pj := 116) (fun v61 => [(0, .ref a0)]) (fun v61 => []) (fun v61 => ?_) (fun j62 hj62 => ?_)
          · refine Ex_aload_n dX2_winIfElected_116 rfl 0 rfl ?_
            refine Ex_bnU (Inv_V (L_X2_beginRound hG a0) (lw_V q929 q930 q931 q50 q932) oe_2 ⟨rfl, hm_X2_beginRound⟩ (by decide) (by decide) dX2_winIfElected_117 rfl (Nat.le_of_ble_eq_true rfl)) (fun _ => ?_)
            exact Ex_vreturn dX2_winIfElected_120 rfl
          · refine Ex_icmp_ge (tgt := 116) dX2_winIfElected_90 (by decide) ?_ ?_
            · refine Ex_lv [0] (lv' := [(0, .ref a0)]) rfl ?_
              exact hj62 ()
            · refine Ex_aload_n dX2_winIfElected_93 rfl 0 rfl ?_
              refine Ex_gR dX2_winIfElected_94 lk_X2_33 rfl (fun x63 => ?_)
              refine Ex_nO (ci := 8) (q := qcl 8) dX2_winIfElected_97 rfl q428 q1253 q80 (fun a64 => ?_)
              refine Ex_dup rfl dX2_winIfElected_100 ?_
              refine Ex_aload_n dX2_winIfElected_101 rfl 0 rfl ?_
              refine Ex_gI dX2_winIfElected_102 lk_X2_143 rfl (fun x65 => ?_)
              refine Ex_bipush (v := 111) dX2_winIfElected_105 (by decide) ?_
              refine Ex_iconst (v := 0) dX2_winIfElected_107 (by decide) ?_
              refine Ex_iconst (v := 0) dX2_winIfElected_108 (by decide) ?_
              refine Ex_bnU (Inv_I (L_X15_init hG a64 x65 111 0 0) q80 q1254 q1255 q1256 rfl hm_X15_init (by decide) (by decide) dX2_winIfElected_109 rfl (Nat.le_of_ble_eq_true rfl)) (fun _ => ?_)
              refine Ex_bnI (Inv_V (L_J2_add hG x63 a64) (lw_V q934 q935 q936 q48 q937) oe_22 ⟨rfl, hm_J2_add⟩ (by decide) (by decide) dX2_winIfElected_112 rfl (Nat.le_of_ble_eq_true rfl)) (fun r66 => ?_)
              refine Ex_pop rfl dX2_winIfElected_115 ?_
              refine Ex_lv [0] (lv' := [(0, .ref a0)]) rfl ?_
              exact hj62 ()
        · refine Ex_aload_n dX2_winIfElected_52 rfl 0 rfl ?_
          refine Ex_gR dX2_winIfElected_53 lk_X2_47 rfl (fun x67 => ?_)
          refine Ex_iload_n dX2_winIfElected_56 rfl 1 rfl ?_
          refine Ex_aload_n dX2_winIfElected_57 rfl 0 rfl ?_
          refine Ex_bnI (Inv_V (L_X2_last hG a0) (lw_V q978 q108 q109 q50 q110) oe_2 ⟨rfl, hm_X2_last⟩ (by decide) (by decide) dX2_winIfElected_58 rfl (Nat.le_of_ble_eq_true rfl)) (fun r68 => ?_)
          refine Ex_iconst (v := 1) dX2_winIfElected_61 (by decide) ?_
          refine Ex_iadd dX2_winIfElected_62 ?_
          refine Ex_iast dX2_winIfElected_63 ?_
          refine Ex_aload_n dX2_winIfElected_64 rfl 0 rfl ?_
          refine Ex_gR dX2_winIfElected_65 lk_X2_51 rfl (fun x69 => ?_)
          refine Ex_iload_n dX2_winIfElected_68 rfl 1 rfl ?_
          refine Ex_iconst (v := 0) dX2_winIfElected_69 (by decide) ?_
          refine Ex_iast dX2_winIfElected_70 ?_
          refine Ex_aload_n dX2_winIfElected_71 rfl 0 rfl ?_
          refine Ex_gR dX2_winIfElected_72 lk_X2_54 rfl (fun x70 => ?_)
          refine Ex_iload_n dX2_winIfElected_75 rfl 1 rfl ?_
          refine Ex_iconst (v := 0) dX2_winIfElected_76 (by decide) ?_
          refine Ex_iast dX2_winIfElected_77 ?_
          refine Ex_iinc (j := 1) (lv' := [(0, .ref a0), (1, .int (v58 + 1))]) dX2_winIfElected_78 rfl rfl (by decide) [1, 0] rfl ?_
          refine Ex_goto (tgt := 47) dX2_winIfElected_81 (by decide) ?_
          exact hj59 (v58 + 1)
      · refine Ex_lv [] (lv' := []) rfl ?_
        exact hj52 ()
-- QuorumAlmanac$Wish.<init>(IIIIII)V
def m_X14_init (a0 : Nat) (x1 : Int32) (x2 : Int32) (x3 : Int32) (x4 : Int32) (x5 : Int32) (x6 : Int32) : Ms Unit :=
  bn (m_X10_init a0 x1 x2 x3 x4) fun _ =>
  pV [8] 30 a0 (.int x5) <|
  pV [8] 31 a0 (.int x6) <|
  rt ()
theorem hm_X14_init : (yX14_init.cls ≠ "java/lang/invoke/MethodHandle" ∧ yX14_init.cls ≠ "java/lang/invoke/VarHandle" ∧ (parseMethodDescriptor yX14_init.desc).map (fun d => d.parameters.length) = some 6) := by decide +kernel
set_option maxHeartbeats 4000000 in
set_option maxRecDepth 100000 in
theorem L_X14_init {G : GT} (hG : GOK G) (a0 : Nat) (x1 : Int32) (x2 : Int32) (x3 : Int32) (x4 : Int32) (x5 : Int32) (x6 : Int32) : Cal G yX14_init (ws_ yX14_init cX14_init 7 (Option.none : Option Jvm.ClassFile.FieldType)) 3 84 [.ref a0, .int x1, .int x2, .int x3, .int x4, .int x5, .int x6] rU (m_X14_init a0 x1 x2 x3 x4 x5 x6) := by
  refine Cal_of hG (by decide +kernel) (Nat.le_of_ble_eq_true rfl) (lv0 := [(0, .ref a0), (1, .int x1), (2, .int x2), (3, .int x3), (4, .int x4), (5, .int x5), (6, .int x6)]) rfl (fun X σ0 => ?_)
  delta m_X14_init
  refine Ex_aload_n dX14_init_0 rfl 0 rfl ?_
  refine Ex_iload_n dX14_init_1 rfl 1 rfl ?_
  refine Ex_iload_n dX14_init_2 rfl 2 rfl ?_
  refine Ex_iload_n dX14_init_3 rfl 3 rfl ?_
  refine Ex_iload dX14_init_4 4 rfl ?_
  refine Ex_bnU (Inv_I (L_X10_init hG a0 x1 x2 x3 x4) q73 q1231 q1005 q1006 rfl hm_X10_init (by decide) (by decide) dX14_init_6 rfl (Nat.le_of_ble_eq_true rfl)) (fun _ => ?_)
  refine Ex_aload_n dX14_init_9 rfl 0 rfl ?_
  refine Ex_iload dX14_init_10 5 rfl ?_
  refine Ex_pVF dX14_init_12 lkf_X14_7 rfl rfl rfl rfl rfl rfl ?_
  refine Ex_aload_n dX14_init_15 rfl 0 rfl ?_
  refine Ex_iload dX14_init_16 6 rfl ?_
  refine Ex_pVF dX14_init_18 lkf_X14_13 rfl rfl rfl rfl rfl rfl ?_
  exact Ex_vreturn dX14_init_21 rfl
-- QuorumAlmanac$Node.stand()V
def m_X2_stand (a0 : Nat) : Ms Unit :=
  gI [2] 8 a0 fun x54 =>
  bn (ko [2] a0 (m_X2_follow a0 (x54 + 1))) fun _ =>
  pV [2] 6 a0 (.int 99) <|
  gI [2] 4 a0 fun x55 =>
  pV [2] 9 a0 (.int x55) <|
  gI [2] 4 a0 fun x56 =>
  pV [2] 17 a0 (.int (1 <<< (x56 &&& 31))) <|
  gI [2] 7 a0 fun x57 =>
  pV [2] 10 a0 (.int x57) <|
  lp (fun j59 (v58 : Int32) =>
      if 5 ≤ v58 then
        bn (ko [2] a0 (m_X2_winIfElected a0)) fun _ =>
        rt ()
      else
        gI [2] 4 a0 fun x60 =>
        jn (fun (v61 : Unit) =>
            j59 (v58 + 1))
          fun j62 =>
          if v58 = x60 then
            j62 ()
          else
            bn (ko [2] a0 (m_X2_members a0)) fun r63 =>
            bn (ko [3] r63 (m_X3_all r63)) fun r64 =>
            bn (m_X1_isIn r64 v58) fun r65 =>
            if r65 = 0 then
              j62 ()
            else
              gR [2] 115 a0 fun x66 =>
              nO 8 6 dfl fun a67 =>
              gR [2] 115 a0 fun x68 =>
              bn (ko [1] x68 (m_X1_nextMessage x68)) fun r69 =>
              gI [2] 4 a0 fun x70 =>
              gI [2] 8 a0 fun x71 =>
              bn (ko [2] a0 (m_X2_last a0)) fun r72 =>
              bn (ko [2] a0 (m_X2_last a0)) fun r73 =>
              bn (ko [2] a0 (m_X2_termAt a0 r73)) fun r74 =>
              bn (m_X14_init a67 r69 x70 v58 x71 r72 r74) fun _ =>
              bn (ko [1] x66 (m_X1_send x66 a67)) fun _ =>
              j62 ())
    0
theorem hm_X2_stand : (yX2_stand.cls ≠ "java/lang/invoke/MethodHandle" ∧ yX2_stand.cls ≠ "java/lang/invoke/VarHandle" ∧ (parseMethodDescriptor yX2_stand.desc).map (fun d => d.parameters.length) = some 0) := by decide +kernel
set_option maxHeartbeats 4000000 in
set_option maxRecDepth 100000 in
theorem L_X2_stand {G : GT} (hG : GOK G) (a0 : Nat) : Cal G yX2_stand (ws_ yX2_stand cX2_stand 2 (Option.none : Option Jvm.ClassFile.FieldType)) 12 279 [.ref a0] rU (m_X2_stand a0) := by
  refine Cal_of hG (by decide +kernel) (Nat.le_of_ble_eq_true rfl) (lv0 := [(0, .ref a0)]) rfl (fun X σ0 => ?_)
  delta m_X2_stand
  refine Ex_aload_n dX2_stand_0 rfl 0 rfl ?_
  refine Ex_aload_n dX2_stand_1 rfl 0 rfl ?_
  refine Ex_gI dX2_stand_2 lk_X2_143 rfl (fun x54 => ?_)
  refine Ex_iconst (v := 1) dX2_stand_5 (by decide) ?_
  refine Ex_iadd dX2_stand_6 ?_
  refine Ex_bnU (Inv_V (L_X2_follow hG a0 (x54 + 1)) (lw_V q1214 q1215 q1216 q50 q1217) oe_2 ⟨rfl, hm_X2_follow⟩ (by decide) (by decide) dX2_stand_7 rfl (Nat.le_of_ble_eq_true rfl)) (fun _ => ?_)
  refine Ex_aload_n dX2_stand_10 rfl 0 rfl ?_
  refine Ex_bipush (v := 99) dX2_stand_11 (by decide) ?_
  refine Ex_pV dX2_stand_13 lk_X2_19 rfl rfl rfl rfl ?_
  refine Ex_aload_n dX2_stand_16 rfl 0 rfl ?_
  refine Ex_aload_n dX2_stand_17 rfl 0 rfl ?_
  refine Ex_gI dX2_stand_18 lk_X2_60 rfl (fun x55 => ?_)
  refine Ex_pV dX2_stand_21 lk_X2_23 rfl rfl rfl rfl ?_
  refine Ex_aload_n dX2_stand_24 rfl 0 rfl ?_
  refine Ex_iconst (v := 1) dX2_stand_25 (by decide) ?_
  refine Ex_aload_n dX2_stand_26 rfl 0 rfl ?_
  refine Ex_gI dX2_stand_27 lk_X2_60 rfl (fun x56 => ?_)
  refine Ex_ishl dX2_stand_30 ?_
  refine Ex_pV dX2_stand_31 lk_X2_196 rfl rfl rfl rfl ?_
  refine Ex_aload_n dX2_stand_34 rfl 0 rfl ?_
  refine Ex_aload_n dX2_stand_35 rfl 0 rfl ?_
  refine Ex_gI dX2_stand_36 lk_X2_186 rfl (fun x57 => ?_)
  refine Ex_pV dX2_stand_39 lk_X2_199 rfl rfl rfl rfl ?_
  refine Ex_iconst (v := 0) dX2_stand_42 (by decide) ?_
  refine Ex_istore_n (lv' := [(0, .ref a0), (1, .int 0)]) dX2_stand_43 rfl (by decide) [1, 0] rfl ?_
  refine Ex_lp (γ := Int32) (pj := 44) (fun v58 => [(0, .ref a0), (1, .int v58)]) (fun v58 => []) (fun j59 hj59 v58 => ?_) 0 rfl rfl
  refine Ex_iload_n dX2_stand_44 rfl 1 rfl ?_
  refine Ex_iconst (v := 5) dX2_stand_45 (by decide) ?_
  refine Ex_icmp_ge (tgt := 119) dX2_stand_46 (by decide) ?_ ?_
  · refine Ex_aload_n dX2_stand_119 rfl 0 rfl ?_
    refine Ex_bnU (Inv_V (L_X2_winIfElected hG a0) (lw_V q1245 q1246 q1247 q50 q1248) oe_2 ⟨rfl, hm_X2_winIfElected⟩ (by decide) (by decide) dX2_stand_120 rfl (Nat.le_of_ble_eq_true rfl)) (fun _ => ?_)
    exact Ex_vreturn dX2_stand_123 rfl
  · refine Ex_iload_n dX2_stand_49 rfl 1 rfl ?_
    refine Ex_aload_n dX2_stand_50 rfl 0 rfl ?_
    refine Ex_gI dX2_stand_51 lk_X2_60 rfl (fun x60 => ?_)
    refine Ex_jn (γ := Unit) (pj := 113) (fun v61 => [(0, .ref a0), (1, .int v58)]) (fun v61 => []) (fun v61 => ?_) (fun j62 hj62 => ?_)
    · refine Ex_iinc (j := 1) (lv' := [(0, .ref a0), (1, .int (v58 + 1))]) dX2_stand_113 rfl rfl (by decide) [1, 0] rfl ?_
      refine Ex_goto (tgt := 44) dX2_stand_116 (by decide) ?_
      exact hj59 (v58 + 1)
    · refine Ex_icmp_eq (tgt := 113) dX2_stand_54 (by decide) ?_ ?_
      · exact hj62 ()
      · refine Ex_aload_n dX2_stand_57 rfl 0 rfl ?_
        refine Ex_bnR (Inv_V (L_X2_members hG a0) (lw_V q974 q975 q976 q50 q977) oe_2 ⟨rfl, hm_X2_members⟩ (by decide) (by decide) dX2_stand_58 rfl (Nat.le_of_ble_eq_true rfl)) (fun r63 => ?_)
        refine Ex_bnI (Inv_V (L_X3_all hG r63) (lw_V q981 q982 q983 q51 q984) oe_3 ⟨rfl, hm_X3_all⟩ (by decide) (by decide) dX2_stand_61 rfl (Nat.le_of_ble_eq_true rfl)) (fun r64 => ?_)
        refine Ex_iload_n dX2_stand_64 rfl 1 rfl ?_
        refine Ex_bnI (Inv_SN (L_X1_isIn hG r64 v58) q45 q985 q986 q987 hm_X1_isIn (by decide) (by decide) dX2_stand_65 rfl (Nat.le_of_ble_eq_true rfl)) (fun r65 => ?_)
        refine Ex_if_eq (tgt := 113) dX2_stand_68 (by decide) ?_ ?_
        · exact hj62 ()
        · refine Ex_aload_n dX2_stand_71 rfl 0 rfl ?_
          refine Ex_gR dX2_stand_72 lk_X2_3 rfl (fun x66 => ?_)
          refine Ex_nO (ci := 7) (q := qcl 7) dX2_stand_75 rfl q1226 q1227 q79 (fun a67 => ?_)
          refine Ex_dup rfl dX2_stand_78 ?_
          refine Ex_aload_n dX2_stand_79 rfl 0 rfl ?_
          refine Ex_gR dX2_stand_80 lk_X2_3 rfl (fun x68 => ?_)
          refine Ex_bnI (Inv_VN (L_X1_nextMessage hG x68) q45 q994 q996 q997 qs10 oe_1 hm_X1_nextMessage (by decide) (by decide) dX2_stand_83 rfl (Nat.le_of_ble_eq_true rfl)) (fun r69 => ?_)
          refine Ex_aload_n dX2_stand_86 rfl 0 rfl ?_
          refine Ex_gI dX2_stand_87 lk_X2_60 rfl (fun x70 => ?_)
          refine Ex_iload_n dX2_stand_90 rfl 1 rfl ?_
          refine Ex_aload_n dX2_stand_91 rfl 0 rfl ?_
          refine Ex_gI dX2_stand_92 lk_X2_143 rfl (fun x71 => ?_)
          refine Ex_aload_n dX2_stand_95 rfl 0 rfl ?_
          refine Ex_bnI (Inv_V (L_X2_last hG a0) (lw_V q978 q108 q109 q50 q110) oe_2 ⟨rfl, hm_X2_last⟩ (by decide) (by decide) dX2_stand_96 rfl (Nat.le_of_ble_eq_true rfl)) (fun r72 => ?_)
          refine Ex_aload_n dX2_stand_99 rfl 0 rfl ?_
          refine Ex_aload_n dX2_stand_100 rfl 0 rfl ?_
          refine Ex_bnI (Inv_V16 (L_X2_last hG a0) (lw_V q978 q108 q109 q50 q110) oe_2 ⟨rfl, hm_X2_last⟩ (by decide) (by decide) dX2_stand_101 rfl (Nat.le_of_ble_eq_true rfl)) (fun r73 => ?_)
          refine Ex_bnI (Inv_V (L_X2_termAt hG a0 r73) (lw_V q1096 q744 q745 q50 q746) oe_2 ⟨rfl, hm_X2_termAt⟩ (by decide) (by decide) dX2_stand_104 rfl (Nat.le_of_ble_eq_true rfl)) (fun r74 => ?_)
          refine Ex_bnU (Inv_I (L_X14_init hG a67 r69 x70 v58 x71 r72 r74) q79 q1228 q1229 q1230 rfl hm_X14_init (by decide) (by decide) dX2_stand_107 rfl (Nat.le_of_ble_eq_true rfl)) (fun _ => ?_)
          refine Ex_bnU (Inv_VN (L_X1_send hG x66 a67) q45 q1080 q1082 q1083 qs11 oe_1 hm_X1_send (by decide) (by decide) dX2_stand_110 rfl (Nat.le_of_ble_eq_true rfl)) (fun _ => ?_)
          exact hj62 ()
-- java/lang/Integer.intValue()I
def m_J14_intValue (a0 : Nat) : Ms Int32 :=
  gI [24] 97 a0 fun x22 =>
  rt x22
theorem hm_J14_intValue : (yJ14_intValue.cls ≠ "java/lang/invoke/MethodHandle" ∧ yJ14_intValue.cls ≠ "java/lang/invoke/VarHandle" ∧ (parseMethodDescriptor yJ14_intValue.desc).map (fun d => d.parameters.length) = some 0) := by decide +kernel
set_option maxHeartbeats 4000000 in
set_option maxRecDepth 100000 in
theorem L_J14_intValue {G : GT} (hG : GOK G) (a0 : Nat) : Cal G yJ14_intValue (ws_ yJ14_intValue cJ14_intValue 1 (Option.some Jvm.ClassFile.FieldType.int)) 2 60 [.ref a0] rI (m_J14_intValue a0) := by
  refine Cal_of hG (by decide +kernel) (Nat.le_of_ble_eq_true rfl) (lv0 := [(0, .ref a0)]) rfl (fun X σ0 => ?_)
  delta m_J14_intValue
  refine Ex_aload_n dJ14_intValue_0 rfl 0 rfl ?_
  refine Ex_gI dJ14_intValue_1 lk_J14_205 rfl (fun x22 => ?_)
  exact Ex_ireturn dJ14_intValue_4 rfl
-- QuorumAlmanac$Node.tick()I
def m_X2_tick (a0 : Nat) : Ms Int32 :=
  gI [2] 7 a0 fun x52 =>
  pV [2] 7 a0 (.int (x52 + 1)) <|
  gI [2] 6 a0 fun x53 =>
  jn (fun (v54 : Unit) =>
      gI [2] 7 a0 fun x56 =>
      rt x56)
    fun j55 =>
    if ¬ x53 = 108 then
      bn (ko [2] a0 (m_X2_members a0)) fun r57 =>
      bn (ko [3] r57 (m_X3_all r57)) fun r58 =>
      gI [2] 4 a0 fun x59 =>
      bn (m_X1_isIn r58 x59) fun r60 =>
      if r60 = 0 then
        j55 ()
      else
        gI [2] 7 a0 fun x61 =>
        gI [2] 10 a0 fun x62 =>
        gI [2] 4 a0 fun x63 =>
        if (x61 - x62) < (10 + x63) then
          j55 ()
        else
          bn (ko [2] a0 (m_X2_stand a0)) fun _ =>
          j55 ()
    else
      gI [2] 7 a0 fun x64 =>
      gR [2] 114 a0 fun x65 =>
      gR [2] 114 a0 fun x66 =>
      bn (ko [22] x66 (m_J2_size x66)) fun r67 =>
      bn (ko [22] x65 (m_J2_get x65 (r67 - 1))) fun r68 =>
      ko [24] r68 <|
      bn (ko [24] r68 (m_J14_intValue r68)) fun r69 =>
      if (x64 - r69) < 3 then
        j55 ()
      else
        bn (ko [2] a0 (m_X2_beginRound a0)) fun _ =>
        j55 ()
theorem hm_X2_tick : (yX2_tick.cls ≠ "java/lang/invoke/MethodHandle" ∧ yX2_tick.cls ≠ "java/lang/invoke/VarHandle" ∧ (parseMethodDescriptor yX2_tick.desc).map (fun d => d.parameters.length) = some 0) := by decide +kernel
set_option maxHeartbeats 4000000 in
set_option maxRecDepth 100000 in
theorem L_X2_tick {G : GT} (hG : GOK G) (a0 : Nat) : Cal G yX2_tick (ws_ yX2_tick cX2_tick 1 (Option.some Jvm.ClassFile.FieldType.int)) 13 300 [.ref a0] rI (m_X2_tick a0) := by
  refine Cal_of hG (by decide +kernel) (Nat.le_of_ble_eq_true rfl) (lv0 := [(0, .ref a0)]) rfl (fun X σ0 => ?_)
  delta m_X2_tick
  refine Ex_aload_n dX2_tick_0 rfl 0 rfl ?_
  refine Ex_dup rfl dX2_tick_1 ?_
  refine Ex_gI dX2_tick_2 lk_X2_186 rfl (fun x52 => ?_)
  refine Ex_iconst (v := 1) dX2_tick_5 (by decide) ?_
  refine Ex_iadd dX2_tick_6 ?_
  refine Ex_pV dX2_tick_7 lk_X2_186 rfl rfl rfl rfl ?_
  refine Ex_aload_n dX2_tick_10 rfl 0 rfl ?_
  refine Ex_gI dX2_tick_11 lk_X2_19 rfl (fun x53 => ?_)
  refine Ex_bipush (v := 108) dX2_tick_14 (by decide) ?_
  refine Ex_jn (γ := Unit) (pj := 97) (fun v54 => [(0, .ref a0)]) (fun v54 => []) (fun v54 => ?_) (fun j55 hj55 => ?_)
  · refine Ex_aload_n dX2_tick_97 rfl 0 rfl ?_
    refine Ex_gI dX2_tick_98 lk_X2_186 rfl (fun x56 => ?_)
    exact Ex_ireturn dX2_tick_101 rfl
  · refine Ex_icmp_ne (tgt := 57) dX2_tick_16 (by decide) ?_ ?_
    · refine Ex_aload_n dX2_tick_57 rfl 0 rfl ?_
      refine Ex_bnR (Inv_V (L_X2_members hG a0) (lw_V q974 q975 q976 q50 q977) oe_2 ⟨rfl, hm_X2_members⟩ (by decide) (by decide) dX2_tick_58 rfl (Nat.le_of_ble_eq_true rfl)) (fun r57 => ?_)
      refine Ex_bnI (Inv_V (L_X3_all hG r57) (lw_V q981 q982 q983 q51 q984) oe_3 ⟨rfl, hm_X3_all⟩ (by decide) (by decide) dX2_tick_61 rfl (Nat.le_of_ble_eq_true rfl)) (fun r58 => ?_)
      refine Ex_aload_n dX2_tick_64 rfl 0 rfl ?_
      refine Ex_gI dX2_tick_65 lk_X2_60 rfl (fun x59 => ?_)
      refine Ex_bnI (Inv_SN (L_X1_isIn hG r58 x59) q45 q985 q986 q987 hm_X1_isIn (by decide) (by decide) dX2_tick_68 rfl (Nat.le_of_ble_eq_true rfl)) (fun r60 => ?_)
      refine Ex_if_eq (tgt := 97) dX2_tick_71 (by decide) ?_ ?_
      · exact hj55 ()
      · refine Ex_aload_n dX2_tick_74 rfl 0 rfl ?_
        refine Ex_gI dX2_tick_75 lk_X2_186 rfl (fun x61 => ?_)
        refine Ex_aload_n dX2_tick_78 rfl 0 rfl ?_
        refine Ex_gI dX2_tick_79 lk_X2_199 rfl (fun x62 => ?_)
        refine Ex_isub dX2_tick_82 ?_
        refine Ex_bipush (v := 10) dX2_tick_83 (by decide) ?_
        refine Ex_aload_n dX2_tick_85 rfl 0 rfl ?_
        refine Ex_gI dX2_tick_86 lk_X2_60 rfl (fun x63 => ?_)
        refine Ex_iadd dX2_tick_89 ?_
        refine Ex_icmp_lt (tgt := 97) dX2_tick_90 (by decide) ?_ ?_
        · exact hj55 ()
        · refine Ex_aload_n dX2_tick_93 rfl 0 rfl ?_
          refine Ex_bnU (Inv_V (L_X2_stand hG a0) (lw_V q1210 q1212 qs16 q50 q1213) oe_2 ⟨rfl, hm_X2_stand⟩ (by decide) (by decide) dX2_tick_94 rfl (Nat.le_of_ble_eq_true rfl)) (fun _ => ?_)
          exact hj55 ()
    · refine Ex_aload_n dX2_tick_19 rfl 0 rfl ?_
      refine Ex_gI dX2_tick_20 lk_X2_186 rfl (fun x64 => ?_)
      refine Ex_aload_n dX2_tick_23 rfl 0 rfl ?_
      refine Ex_gR dX2_tick_24 lk_X2_57 rfl (fun x65 => ?_)
      refine Ex_aload_n dX2_tick_27 rfl 0 rfl ?_
      refine Ex_gR dX2_tick_28 lk_X2_57 rfl (fun x66 => ?_)
      refine Ex_bnI (Inv_V (L_J2_size hG x66) (lw_V q111 q112 q113 q48 q114) oe_22 ⟨rfl, hm_J2_size⟩ (by decide) (by decide) dX2_tick_31 rfl (Nat.le_of_ble_eq_true rfl)) (fun r67 => ?_)
      refine Ex_iconst (v := 1) dX2_tick_34 (by decide) ?_
      refine Ex_isub dX2_tick_35 ?_
      refine Ex_bnR (Inv_V (L_J2_get hG x65 (r67 - 1)) (lw_V q414 q415 q416 q48 q417) oe_22 ⟨rfl, hm_J2_get⟩ (by decide) (by decide) dX2_tick_36 rfl (Nat.le_of_ble_eq_true rfl)) (fun r68 => ?_)
      refine Ex_ko dX2_tick_39 q927 oc_java_lang_Integer_24 ?_
      refine Ex_bnI (Inv_V (L_J14_intValue hG r68) (lw_V q928 q670 q671 q68 q672) oe_24 ⟨rfl, hm_J14_intValue⟩ (by decide) (by decide) dX2_tick_42 rfl (Nat.le_of_ble_eq_true rfl)) (fun r69 => ?_)
      refine Ex_isub dX2_tick_45 ?_
      refine Ex_iconst (v := 3) dX2_tick_46 (by decide) ?_
      refine Ex_icmp_lt (tgt := 97) dX2_tick_47 (by decide) ?_ ?_
      · exact hj55 ()
      · refine Ex_aload_n dX2_tick_50 rfl 0 rfl ?_
        refine Ex_bnU (Inv_V (L_X2_beginRound hG a0) (lw_V q929 q930 q931 q50 q932) oe_2 ⟨rfl, hm_X2_beginRound⟩ (by decide) (by decide) dX2_tick_51 rfl (Nat.le_of_ble_eq_true rfl)) (fun _ => ?_)
        refine Ex_goto (tgt := 97) dX2_tick_54 (by decide) ?_
        exact hj55 ()
-- QuorumAlmanac.tick(I)I
def m_X1_tick (a0 : Nat) (x1 : Int32) : Ms Int32 :=
  bd (ko [1] a0 (m_X1_running a0 x1)) fun r36 =>
  gR [1] 104 a0 fun x37 =>
  aL 33 x37 fun x38 =>
  lp (fun j40 (v39 : Int32) =>
      if x38 ≤ v39 then
        bn (ko [2] r36 (m_X2_tick r36)) fun r41 =>
        rt r41
      else
        aR 33 x37 v39 fun x42 =>
        gI [2] 5 x42 fun x43 =>
        jn (fun (v44 : Int32) =>
            bd (m_X1_requireState v44) fun _ =>
            j40 (v39 + 1))
          fun j45 =>
          jn (fun (v46 : Unit) =>
              j45 1)
            fun j47 =>
            if x43 = 0 then
              j47 ()
            else
              gI [2] 7 r36 fun x48 =>
              gI [2] 7 x42 fun x49 =>
              if 2 < ((x48 + 1) - x49) then
                j45 0
              else
                j47 ())
    0
theorem hm_X1_tick : (yX1_tick.cls ≠ "java/lang/invoke/MethodHandle" ∧ yX1_tick.cls ≠ "java/lang/invoke/VarHandle" ∧ (parseMethodDescriptor yX1_tick.desc).map (fun d => d.parameters.length) = some 1) := by decide +kernel
set_option maxHeartbeats 4000000 in
set_option maxRecDepth 100000 in
theorem L_X1_tick {G : GT} (hG : GOK G) (a0 : Nat) (x1 : Int32) : Cal G yX1_tick (ws_ yX1_tick cX1_tick 7 (Option.some Jvm.ClassFile.FieldType.int)) 14 320 [.ref a0, .int x1] rI (m_X1_tick a0 x1) := by
  refine Cal_of hG (by decide +kernel) (Nat.le_of_ble_eq_true rfl) (lv0 := [(0, .ref a0), (1, .int x1)]) rfl (fun X σ0 => ?_)
  delta m_X1_tick
  refine Ex_aload_n dX1_tick_0 rfl 0 rfl ?_
  refine Ex_iload_n dX1_tick_1 rfl 1 rfl ?_
  refine Ex_bdR (Inv_V (L_X1_running hG a0 x1) (lw_V q870 q872 qs4 q45 q873) oe_1 ⟨rfl, hm_X1_running⟩ (by decide) (by decide) dX1_tick_2 rfl (Nat.le_of_ble_eq_true rfl)) (fun _ hz => nomatch hz) (fun r36 => ?_)
  refine Ex_astore_n (lv' := [(0, .ref a0), (1, .int x1), (2, .ref r36)]) dX1_tick_5 rfl (by decide) [1, 2, 0] rfl ?_
  refine Ex_aload_n dX1_tick_6 rfl 0 rfl ?_
  refine Ex_gR dX1_tick_7 lk_X1_35 rfl (fun x37 => ?_)
  refine Ex_astore_n (lv' := [(0, .ref a0), (1, .int x1), (2, .ref r36), (3, .ref x37)]) dX1_tick_10 rfl (by decide) [1, 2, 3, 0] rfl ?_
  refine Ex_aload_n dX1_tick_11 rfl 3 rfl ?_
  refine Ex_aL (j := 3) rfl dX1_tick_12 (fun x38 => ?_)
  refine Ex_istore (lv' := [(0, .ref a0), (1, .int x1), (2, .ref r36), (3, .ref x37), (4, .int x38)]) dX1_tick_13 (by decide) [1, 2, 3, 4, 0] rfl ?_
  refine Ex_iconst (v := 0) dX1_tick_15 (by decide) ?_
  refine Ex_istore (lv' := [(0, .ref a0), (1, .int x1), (2, .ref r36), (3, .ref x37), (4, .int x38), (5, .int 0)]) dX1_tick_16 (by decide) [1, 2, 3, 4, 5, 0] rfl ?_
  refine Ex_lv [2, 3, 4, 5] (lv' := [(2, .ref r36), (3, .ref x37), (4, .int x38), (5, .int 0)]) rfl ?_
  refine Ex_lp (γ := Int32) (pj := 18) (fun v39 => [(2, .ref r36), (3, .ref x37), (4, .int x38), (5, .int v39)]) (fun v39 => []) (fun j40 hj40 v39 => ?_) 0 rfl rfl
  refine Ex_iload dX1_tick_18 3 rfl ?_
  refine Ex_iload dX1_tick_20 2 rfl ?_
  refine Ex_icmp_ge (tgt := 69) dX1_tick_22 (by decide) ?_ ?_
  · refine Ex_aload_n dX1_tick_69 rfl 0 rfl ?_
    refine Ex_bnI (Inv_V (L_X2_tick hG r36) (lw_V q923 q924 q925 q50 q926) oe_2 ⟨rfl, hm_X2_tick⟩ (by decide) (by decide) dX1_tick_70 rfl (Nat.le_of_ble_eq_true rfl)) (fun r41 => ?_)
    exact Ex_ireturn dX1_tick_73 rfl
  · refine Ex_aload_n dX1_tick_25 rfl 1 rfl ?_
    refine Ex_iload dX1_tick_26 3 rfl ?_
    refine Ex_aR (j := 3) rfl rfl dX1_tick_28 (fun x42 => ?_)
    refine Ex_astore (lv' := [(2, .ref r36), (3, .ref x37), (4, .int x38), (5, .int v39), (6, .ref x42)]) dX1_tick_29 (by decide) [1, 2, 3, 4, 0] rfl ?_
    refine Ex_aload dX1_tick_31 4 rfl ?_
    refine Ex_gI dX1_tick_33 lk_X1_113 rfl (fun x43 => ?_)
    refine Ex_jn (γ := Int32) (pj := 60) (fun v44 => [(2, .ref r36), (3, .ref x37), (4, .int x38), (5, .int v39)]) (fun v44 => [.int v44]) (fun v44 => ?_) (fun j45 hj45 => ?_)
    · refine Ex_bdU (Inv_S (L_X1_requireState hG v44) (lw_S q905 q906 q45 q907) hm_X1_requireState (by decide) (by decide) dX1_tick_60 rfl (Nat.le_of_ble_eq_true rfl)) (fun _ hz => nomatch hz) (fun _ => ?_)
      refine Ex_iinc (j := 3) (lv' := [(2, .ref r36), (3, .ref x37), (4, .int x38), (5, .int (v39 + 1))]) dX1_tick_63 rfl rfl (by decide) [1, 2, 3, 0] rfl ?_
      refine Ex_goto (tgt := 18) dX1_tick_66 (by decide) ?_
      exact hj40 (v39 + 1)
    · refine Ex_jn (γ := Unit) (pj := 55) (fun v46 => [(2, .ref r36), (3, .ref x37), (4, .int x38), (5, .int v39)]) (fun v46 => []) (fun v46 => ?_) (fun j47 hj47 => ?_)
      · refine Ex_iconst (v := 1) dX1_tick_55 (by decide) ?_
        refine Ex_goto (tgt := 60) dX1_tick_56 (by decide) ?_
        exact hj45 1
      · refine Ex_if_eq (tgt := 55) dX1_tick_36 (by decide) ?_ ?_
        · refine Ex_lv [0, 1, 2, 3] (lv' := [(2, .ref r36), (3, .ref x37), (4, .int x38), (5, .int v39)]) rfl ?_
          exact hj47 ()
        · refine Ex_aload_n dX1_tick_39 rfl 0 rfl ?_
          refine Ex_gI dX1_tick_40 lk_X1_122 rfl (fun x48 => ?_)
          refine Ex_iconst (v := 1) dX1_tick_43 (by decide) ?_
          refine Ex_iadd dX1_tick_44 ?_
          refine Ex_aload dX1_tick_45 4 rfl ?_
          refine Ex_gI dX1_tick_47 lk_X1_122 rfl (fun x49 => ?_)
          refine Ex_isub dX1_tick_50 ?_
          refine Ex_iconst (v := 2) dX1_tick_51 (by decide) ?_
          refine Ex_icmp_gt (tgt := 59) dX1_tick_52 (by decide) ?_ ?_
          · refine Ex_iconst (v := 0) dX1_tick_59 (by decide) ?_
            refine Ex_lv [0, 1, 2, 3] (lv' := [(2, .ref r36), (3, .ref x37), (4, .int x38), (5, .int v39)]) rfl ?_
            exact hj45 0
          · refine Ex_lv [0, 1, 2, 3] (lv' := [(2, .ref r36), (3, .ref x37), (4, .int x38), (5, .int v39)]) rfl ?_
            exact hj47 ()
-- QuorumAlmanacLaw.tick(LQuorumAlmanac;I[J)I
def m_X0_tick (a0 : Nat) (x1 : Int32) (a2 : Nat) : Ms Int32 :=
  tr (ko [1] a0 (m_X1_tick a0 x1)) (fun r22 =>
    sV 35 a2 0 (.long r22.toInt64) <|
    rt 0) fun e q23 =>
    if e = 0 then
      rt 1
    else 
      if e = 1 then
        rt 2
      else fl
theorem hm_X0_tick : (yX0_tick.cls ≠ "java/lang/invoke/MethodHandle" ∧ yX0_tick.cls ≠ "java/lang/invoke/VarHandle" ∧ (parseMethodDescriptor yX0_tick.desc).map (fun d => d.parameters.length) = some 3) := by decide +kernel
set_option maxHeartbeats 4000000 in
set_option maxRecDepth 100000 in
theorem L_X0_tick {G : GT} (hG : GOK G) (a0 : Nat) (x1 : Int32) (a2 : Nat) : Cal G yX0_tick (wsW_ yX0_tick cX0_tick 4 (Option.some Jvm.ClassFile.FieldType.int) [(0, 9, 12, 13), (0, 9, 15, 15)]) 15 346 [.ref a0, .int x1, .ref a2] rI (m_X0_tick a0 x1 a2) := by
  refine Cal_ofH hG (by decide +kernel) (Nat.le_of_ble_eq_true rfl) (tb := [{ startPc := 0, endPc := 9, handlerPc := 12, catchType := 13 }, { startPc := 0, endPc := 9, handlerPc := 15, catchType := 15 }]) rfl (lv0 := [(0, .ref a0), (1, .int x1), (2, .ref a2)]) rfl (fun X σ0 => ?_)
  delta m_X0_tick
  refine Ex_aload_n dX0_tick_0 rfl 2 rfl ?_
  refine Ex_iconst (v := 0) dX0_tick_1 (by decide) ?_
  refine Ex_aload_n dX0_tick_2 rfl 0 rfl ?_
  refine Ex_iload_n dX0_tick_3 rfl 1 rfl ?_
  refine Ex_trI (Inv_V (L_X1_tick hG a0 x1) (lw_V q866 q867 q868 q45 q869) oe_1 ⟨rfl, hm_X1_tick⟩ (by decide) (by decide) dX0_tick_4 rfl (Nat.le_of_ble_eq_true rfl)) (fun r22 => ?_) (fun e q23 => ?_)
  · refine Ex_i2l dX0_tick_7 ?_
    refine Ex_last dX0_tick_8 ?_
    refine Ex_goto (tgt := 18) dX0_tick_9 (by decide) ?_
    refine Ex_iconst (v := 0) dX0_tick_18 (by decide) ?_
    exact Ex_ireturn dX0_tick_19 rfl
  · refine ExT_if (e0 := 0) ?_ ?_
    · refine ExT_catch (name := "java/lang/IndexOutOfBoundsException") [] { startPc := 0, endPc := 9, handlerPc := 12, catchType := 13 } [{ startPc := 0, endPc := 9, handlerPc := 15, catchType := 15 }] rfl (fun _ hz => nomatch hz) rfl (by decide) q784 q886 ?_
      refine Ex_astore_n (lv' := [(0, .ref a0), (1, .int x1), (2, .ref a2), (3, .ref q23)]) dX0_tick_12 rfl (by decide) [1, 2, 3, 0] rfl ?_
      refine Ex_iconst (v := 1) dX0_tick_13 (by decide) ?_
      exact Ex_ireturn dX0_tick_14 rfl
    · refine ExT_if (e0 := 1) ?_ ?_
      · refine ExT_catch (name := "java/lang/IllegalStateException") [{ startPc := 0, endPc := 9, handlerPc := 12, catchType := 13 }] { startPc := 0, endPc := 9, handlerPc := 15, catchType := 15 } [] rfl (List.forall_mem_cons.mpr ⟨Or.inr ⟨by decide, "java/lang/IndexOutOfBoundsException", q784, nc_1_0⟩, fun _ hz => nomatch hz⟩) rfl (by decide) q865 q910 ?_
        refine Ex_astore_n (lv' := [(0, .ref a0), (1, .int x1), (2, .ref a2), (3, .ref q23)]) dX0_tick_15 rfl (by decide) [1, 2, 3, 0] rfl ?_
        refine Ex_iconst (v := 2) dX0_tick_16 (by decide) ?_
        exact Ex_ireturn dX0_tick_17 rfl
      · exact ExT_fl
-- QuorumAlmanac$Answer.<init>(IIIIICI)V
def m_X18_init (a0 : Nat) (x1 : Int32) (x2 : Int32) (x3 : Int32) (x4 : Int32) (x5 : Int32) (x6 : Int32) (x7 : Int32) : Ms Unit :=
  bn (m_X11_init a0 x1 x2 x3 x4 x5) fun _ =>
  ck (0 ≤ Int32.toInt x6 ∧ Int32.toInt x6 < 65536) <|
  pV [10] 36 a0 (.int x6) <|
  pV [10] 37 a0 (.int x7) <|
  rt ()
theorem hm_X18_init : (yX18_init.cls ≠ "java/lang/invoke/MethodHandle" ∧ yX18_init.cls ≠ "java/lang/invoke/VarHandle" ∧ (parseMethodDescriptor yX18_init.desc).map (fun d => d.parameters.length) = some 7) := by decide +kernel
set_option maxHeartbeats 4000000 in
set_option maxRecDepth 100000 in
theorem L_X18_init {G : GT} (hG : GOK G) (a0 : Nat) (x1 : Int32) (x2 : Int32) (x3 : Int32) (x4 : Int32) (x5 : Int32) (x6 : Int32) (x7 : Int32) : Cal G yX18_init (ws_ yX18_init cX18_init 8 (Option.none : Option Jvm.ClassFile.FieldType)) 4 109 [.ref a0, .int x1, .int x2, .int x3, .int x4, .int x5, .int x6, .int x7] rU (m_X18_init a0 x1 x2 x3 x4 x5 x6 x7) := by
  refine Cal_of hG (by decide +kernel) (Nat.le_of_ble_eq_true rfl) (lv0 := [(0, .ref a0), (1, .int x1), (2, .int x2), (3, .int x3), (4, .int x4), (5, .int x5), (6, .int x6), (7, .int x7)]) rfl (fun X σ0 => ?_)
  delta m_X18_init
  refine Ex_aload_n dX18_init_0 rfl 0 rfl ?_
  refine Ex_iload_n dX18_init_1 rfl 1 rfl ?_
  refine Ex_iload_n dX18_init_2 rfl 2 rfl ?_
  refine Ex_iload_n dX18_init_3 rfl 3 rfl ?_
  refine Ex_iload dX18_init_4 4 rfl ?_
  refine Ex_iload dX18_init_6 5 rfl ?_
  refine Ex_bnU (Inv_I (L_X11_init hG a0 x1 x2 x3 x4 x5) q74 q1329 q1002 q1003 rfl hm_X11_init (by decide) (by decide) dX18_init_8 rfl (Nat.le_of_ble_eq_true rfl)) (fun _ => ?_)
  refine Ex_aload_n dX18_init_11 rfl 0 rfl ?_
  refine Ex_iload dX18_init_12 6 rfl ?_
  refine Ex_ck (fun hz => ?_)
  refine Ex_pVF dX18_init_14 lkf_X18_7 rfl rfl rfl rfl (cok_n hz) (cok_f hz) ?_
  refine Ex_aload_n dX18_init_17 rfl 0 rfl ?_
  refine Ex_iload dX18_init_18 7 rfl ?_
  refine Ex_pVF dX18_init_20 lkf_X18_13 rfl rfl rfl rfl rfl rfl ?_
  exact Ex_vreturn dX18_init_23 rfl
-- QuorumAlmanac$Entry.isLike(LQuorumAlmanac$Entry;)Z
def m_X15_isLike (a0 : Nat) (a1 : Nat) : Ms Int32 :=
  gI [9] 32 a0 fun x36 =>
  gI [9] 32 a1 fun x37 =>
  jn (fun (v38 : Int32) =>
      ck (v38 = 0 ∨ v38 = 1) <|
      rt v38)
    fun j39 =>
    jn (fun (v40 : Unit) =>
        j39 0)
      fun j41 =>
      if ¬ x36 = x37 then
        j41 ()
      else
        gI [9] 33 a0 fun x42 =>
        gI [9] 33 a1 fun x43 =>
        if ¬ x42 = x43 then
          j41 ()
        else
          gI [9] 34 a0 fun x44 =>
          gI [9] 34 a1 fun x45 =>
          if ¬ x44 = x45 then
            j41 ()
          else
            gI [9] 35 a0 fun x46 =>
            gI [9] 35 a1 fun x47 =>
            if ¬ x46 = x47 then
              j41 ()
            else
              j39 1
theorem hm_X15_isLike : (yX15_isLike.cls ≠ "java/lang/invoke/MethodHandle" ∧ yX15_isLike.cls ≠ "java/lang/invoke/VarHandle" ∧ (parseMethodDescriptor yX15_isLike.desc).map (fun d => d.parameters.length) = some 1) := by decide +kernel
set_option maxHeartbeats 4000000 in
set_option maxRecDepth 100000 in
theorem L_X15_isLike {G : GT} (hG : GOK G) (a0 : Nat) (a1 : Nat) : Cal G yX15_isLike (ws_ yX15_isLike cX15_isLike 2 (Option.some Jvm.ClassFile.FieldType.boolean)) 2 60 [.ref a0, .ref a1] rI (m_X15_isLike a0 a1) := by
  refine Cal_of hG (by decide +kernel) (Nat.le_of_ble_eq_true rfl) (lv0 := [(0, .ref a0), (1, .ref a1)]) rfl (fun X σ0 => ?_)
  delta m_X15_isLike
  refine Ex_aload_n dX15_isLike_0 rfl 0 rfl ?_
  refine Ex_gI dX15_isLike_1 lk_X15_7 rfl (fun x36 => ?_)
  refine Ex_aload_n dX15_isLike_4 rfl 1 rfl ?_
  refine Ex_gI dX15_isLike_5 lk_X15_7 rfl (fun x37 => ?_)
  refine Ex_jn (γ := Int32) (pj := 49) (fun v38 => []) (fun v38 => [.int v38]) (fun v38 => ?_) (fun j39 hj39 => ?_)
  · refine Ex_ck (fun hz => ?_)
    exact Ex_zreturn dX15_isLike_49 rfl (zok_n hz)
  · refine Ex_jn (γ := Unit) (pj := 48) (fun v40 => []) (fun v40 => []) (fun v40 => ?_) (fun j41 hj41 => ?_)
    · refine Ex_iconst (v := 0) dX15_isLike_48 (by decide) ?_
      exact hj39 0
    · refine Ex_icmp_ne (tgt := 48) dX15_isLike_8 (by decide) ?_ ?_
      · refine Ex_lv [] (lv' := []) rfl ?_
        exact hj41 ()
      · refine Ex_aload_n dX15_isLike_11 rfl 0 rfl ?_
        refine Ex_gI dX15_isLike_12 lk_X15_13 rfl (fun x42 => ?_)
        refine Ex_aload_n dX15_isLike_15 rfl 1 rfl ?_
        refine Ex_gI dX15_isLike_16 lk_X15_13 rfl (fun x43 => ?_)
        refine Ex_icmp_ne (tgt := 48) dX15_isLike_19 (by decide) ?_ ?_
        · refine Ex_lv [] (lv' := []) rfl ?_
          exact hj41 ()
        · refine Ex_aload_n dX15_isLike_22 rfl 0 rfl ?_
          refine Ex_gI dX15_isLike_23 lk_X15_17 rfl (fun x44 => ?_)
          refine Ex_aload_n dX15_isLike_26 rfl 1 rfl ?_
          refine Ex_gI dX15_isLike_27 lk_X15_17 rfl (fun x45 => ?_)
          refine Ex_icmp_ne (tgt := 48) dX15_isLike_30 (by decide) ?_ ?_
          · refine Ex_lv [] (lv' := []) rfl ?_
            exact hj41 ()
          · refine Ex_aload_n dX15_isLike_33 rfl 0 rfl ?_
            refine Ex_gI dX15_isLike_34 lk_X15_20 rfl (fun x46 => ?_)
            refine Ex_aload_n dX15_isLike_37 rfl 1 rfl ?_
            refine Ex_gI dX15_isLike_38 lk_X15_20 rfl (fun x47 => ?_)
            refine Ex_icmp_ne (tgt := 48) dX15_isLike_41 (by decide) ?_ ?_
            · refine Ex_lv [] (lv' := []) rfl ?_
              exact hj41 ()
            · refine Ex_iconst (v := 1) dX15_isLike_44 (by decide) ?_
              refine Ex_goto (tgt := 49) dX15_isLike_45 (by decide) ?_
              refine Ex_lv [] (lv' := []) rfl ?_
              exact hj39 1
-- QuorumAlmanac.note(ILQuorumAlmanac$Entry;)V
def m_X1_note (a0 : Nat) (x1 : Int32) (a2 : Nat) : Ms Unit :=
  gR [1] 107 a0 fun x36 =>
  bn (ko [22] x36 (m_J2_size x36)) fun r37 =>
  jn (fun (v38 : Unit) =>
      rt ())
    fun j39 =>
    if x1 ≤ r37 then
      gI [1] 2 a0 fun x40 =>
      jn (fun (v41 : Int32 × Nat) =>
          ck (v41.1 = 0 ∨ v41.1 = 1) <|
          pV [1] 2 v41.2 (.int v41.1) <|
          j39 ())
        fun j42 =>
        jn (fun (v43 : Nat) =>
            j42 (0, v43))
          fun j44 =>
          if x40 = 0 then
            j44 a0
          else
            gR [1] 107 a0 fun x45 =>
            bn (ko [22] x45 (m_J2_get x45 (x1 - 1))) fun r46 =>
            ko [9] r46 <|
            bn (ko [9] r46 (m_X15_isLike r46 a2)) fun r47 =>
            if r47 = 0 then
              j44 a0
            else
              j42 (1, a0)
    else
      gR [1] 107 a0 fun x48 =>
      bn (ko [22] x48 (m_J2_add x48 a2)) fun r49 =>
      j39 ()
theorem hm_X1_note : (yX1_note.cls ≠ "java/lang/invoke/MethodHandle" ∧ yX1_note.cls ≠ "java/lang/invoke/VarHandle" ∧ (parseMethodDescriptor yX1_note.desc).map (fun d => d.parameters.length) = some 2) := by decide +kernel
set_option maxHeartbeats 4000000 in
set_option maxRecDepth 100000 in
theorem L_X1_note {G : GT} (hG : GOK G) (a0 : Nat) (x1 : Int32) (a2 : Nat) : Cal G yX1_note (ws_ yX1_note cX1_note 3 (Option.none : Option Jvm.ClassFile.FieldType)) 8 191 [.ref a0, .int x1, .ref a2] rU (m_X1_note a0 x1 a2) := by
  refine Cal_of hG (by decide +kernel) (Nat.le_of_ble_eq_true rfl) (lv0 := [(0, .ref a0), (1, .int x1), (2, .ref a2)]) rfl (fun X σ0 => ?_)
  delta m_X1_note
  refine Ex_iload_n dX1_note_0 rfl 1 rfl ?_
  refine Ex_aload_n dX1_note_1 rfl 0 rfl ?_
  refine Ex_gR dX1_note_2 lk_X1_49 rfl (fun x36 => ?_)
  refine Ex_bnI (Inv_V (L_J2_size hG x36) (lw_V q348 q112 q113 q48 q114) oe_22 ⟨rfl, hm_J2_size⟩ (by decide) (by decide) dX1_note_5 rfl (Nat.le_of_ble_eq_true rfl)) (fun r37 => ?_)
  refine Ex_jn (γ := Unit) (pj := 59) (fun v38 => []) (fun v38 => []) (fun v38 => ?_) (fun j39 hj39 => ?_)
  · exact Ex_vreturn dX1_note_59 rfl
  · refine Ex_icmp_le (tgt := 23) dX1_note_8 (by decide) ?_ ?_
    · refine Ex_aload_n dX1_note_23 rfl 0 rfl ?_
      refine Ex_aload_n dX1_note_24 rfl 0 rfl ?_
      refine Ex_gI dX1_note_25 lk_X1_52 rfl (fun x40 => ?_)
      refine Ex_jn (γ := Int32 × Nat) (pj := 56) (fun v41 => []) (fun v41 => [.int v41.1, .ref v41.2]) (fun v41 => ?_) (fun j42 hj42 => ?_)
      · refine Ex_ck (fun hz => ?_)
        refine Ex_pV dX1_note_56 lk_X1_52 rfl rfl (zok_n hz) (zok_f hz) ?_
        exact hj39 ()
      · refine Ex_jn (γ := Nat) (pj := 55) (fun v43 => []) (fun v43 => [.ref v43]) (fun v43 => ?_) (fun j44 hj44 => ?_)
        · refine Ex_iconst (v := 0) dX1_note_55 (by decide) ?_
          exact hj42 (0, v43)
        · refine Ex_if_eq (tgt := 55) dX1_note_28 (by decide) ?_ ?_
          · refine Ex_lv [] (lv' := []) rfl ?_
            exact hj44 a0
          · refine Ex_aload_n dX1_note_31 rfl 0 rfl ?_
            refine Ex_gR dX1_note_32 lk_X1_49 rfl (fun x45 => ?_)
            refine Ex_iload_n dX1_note_35 rfl 1 rfl ?_
            refine Ex_iconst (v := 1) dX1_note_36 (by decide) ?_
            refine Ex_isub dX1_note_37 ?_
            refine Ex_bnR (Inv_V (L_J2_get hG x45 (x1 - 1)) (lw_V q777 q415 q416 q48 q417) oe_22 ⟨rfl, hm_J2_get⟩ (by decide) (by decide) dX1_note_38 rfl (Nat.le_of_ble_eq_true rfl)) (fun r46 => ?_)
            refine Ex_ko dX1_note_41 q742 oc_QuorumAlmanac_Entry_9 ?_
            refine Ex_aload_n dX1_note_44 rfl 2 rfl ?_
            refine Ex_bnI (Inv_V (L_X15_isLike hG r46 a2) (lw_V q768 q769 q770 q80 q771) oe_9 ⟨rfl, hm_X15_isLike⟩ (by decide) (by decide) dX1_note_45 rfl (Nat.le_of_ble_eq_true rfl)) (fun r47 => ?_)
            refine Ex_if_eq (tgt := 55) dX1_note_48 (by decide) ?_ ?_
            · refine Ex_lv [] (lv' := []) rfl ?_
              exact hj44 a0
            · refine Ex_iconst (v := 1) dX1_note_51 (by decide) ?_
              refine Ex_goto (tgt := 56) dX1_note_52 (by decide) ?_
              refine Ex_lv [] (lv' := []) rfl ?_
              exact hj42 (1, a0)
    · refine Ex_aload_n dX1_note_11 rfl 0 rfl ?_
      refine Ex_gR dX1_note_12 lk_X1_49 rfl (fun x48 => ?_)
      refine Ex_aload_n dX1_note_15 rfl 2 rfl ?_
      refine Ex_bnI (Inv_V (L_J2_add hG x48 a2) (lw_V q1084 q935 q936 q48 q937) oe_22 ⟨rfl, hm_J2_add⟩ (by decide) (by decide) dX1_note_16 rfl (Nat.le_of_ble_eq_true rfl)) (fun r49 => ?_)
      refine Ex_pop rfl dX1_note_19 ?_
      refine Ex_goto (tgt := 59) dX1_note_20 (by decide) ?_
      refine Ex_lv [] (lv' := []) rfl ?_
      exact hj39 ()
-- QuorumAlmanac$Store.rangeOf(I)I
def m_X4_rangeOf (a0 : Nat) (x1 : Int32) : Ms Int32 :=
  lp (fun j25 (v24 : Int32) =>
      gR [4] 117 a0 fun x26 =>
      aI 31 x26 v24 fun x27 =>
      if ¬ x27 = 0 then
        rt v24
      else
        j25 (v24 + (-1)))
    x1
theorem hm_X4_rangeOf : (yX4_rangeOf.cls ≠ "java/lang/invoke/MethodHandle" ∧ yX4_rangeOf.cls ≠ "java/lang/invoke/VarHandle" ∧ (parseMethodDescriptor yX4_rangeOf.desc).map (fun d => d.parameters.length) = some 1) := by decide +kernel
set_option maxHeartbeats 4000000 in
set_option maxRecDepth 100000 in
theorem L_X4_rangeOf {G : GT} (hG : GOK G) (a0 : Nat) (x1 : Int32) : Cal G yX4_rangeOf (ws_ yX4_rangeOf cX4_rangeOf 3 (Option.some Jvm.ClassFile.FieldType.int)) 2 60 [.ref a0, .int x1] rI (m_X4_rangeOf a0 x1) := by
  refine Cal_of hG (by decide +kernel) (Nat.le_of_ble_eq_true rfl) (lv0 := [(0, .ref a0), (1, .int x1)]) rfl (fun X σ0 => ?_)
  delta m_X4_rangeOf
  refine Ex_iload_n dX4_rangeOf_0 rfl 1 rfl ?_
  refine Ex_istore_n (lv' := [(0, .ref a0), (1, .int x1), (2, .int x1)]) dX4_rangeOf_1 rfl (by decide) [1, 2, 0] rfl ?_
  refine Ex_lv [0, 2] (lv' := [(0, .ref a0), (2, .int x1)]) rfl ?_
  refine Ex_lp (γ := Int32) (pj := 2) (fun v24 => [(0, .ref a0), (2, .int v24)]) (fun v24 => []) (fun j25 hj25 v24 => ?_) x1 rfl rfl
  refine Ex_aload_n dX4_rangeOf_2 rfl 0 rfl ?_
  refine Ex_gR dX4_rangeOf_3 lk_X4_15 rfl (fun x26 => ?_)
  refine Ex_iload_n dX4_rangeOf_6 rfl 1 rfl ?_
  refine Ex_aI_z dX4_rangeOf_7 (fun x27 => ?_)
  refine Ex_if_ne (tgt := 17) dX4_rangeOf_8 (by decide) ?_ ?_
  · refine Ex_iload_n dX4_rangeOf_17 rfl 1 rfl ?_
    exact Ex_ireturn dX4_rangeOf_18 rfl
  · refine Ex_iinc (j := 1) (lv' := [(0, .ref a0), (2, .int (v24 + (-1)))]) dX4_rangeOf_11 rfl rfl (by decide) [1, 0] rfl ?_
    refine Ex_goto (tgt := 2) dX4_rangeOf_14 (by decide) ?_
    exact hj25 (v24 + (-1))
-- QuorumAlmanac$Store.apply(LQuorumAlmanac$Entry;)V
def m_X4_apply (a0 : Nat) (a1 : Nat) : Ms Unit :=
  gI [9] 34 a1 fun x62 =>
  gI [9] 33 a1 fun x63 =>
  jn (fun (v64 : Unit) =>
      rt ())
    fun j65 =>
    if x63 = 109 then
      gR [4] 117 a0 fun x66 =>
      aI 31 x66 x62 fun x67 =>
      if x67 = 0 then
        j65 ()
      else
        gR [4] 117 a0 fun x68 =>
        sV 31 x68 x62 (.int 0) <|
        gR [4] 118 a0 fun x69 =>
        bn (ko [4] a0 (m_X4_rangeOf a0 x62)) fun r70 =>
        aI 30 x69 r70 fun x71 =>
        gR [4] 118 a0 fun x72 =>
        aI 30 x72 x62 fun x73 =>
        sV 30 x69 r70 (.int (x71 + x73)) <|
        j65 ()
    else
      if x63 = 115 then
        gR [4] 117 a0 fun x74 =>
        aI 31 x74 x62 fun x75 =>
        if ¬ x75 = 0 then
          j65 ()
        else
          gR [4] 118 a0 fun x76 =>
          bn (ko [4] a0 (m_X4_rangeOf a0 x62)) fun r77 =>
          sV 30 x76 r77 (.int 0) <|
          gR [4] 117 a0 fun x78 =>
          sV 31 x78 x62 (.int 1) <|
          gR [4] 118 a0 fun x79 =>
          sV 30 x79 x62 (.int 0) <|
          j65 ()
      else
        if x63 = 119 then
          gR [4] 116 a0 fun x80 =>
          gI [9] 35 a1 fun x81 =>
          sV 30 x80 x62 (.int x81) <|
          gR [4] 118 a0 fun x82 =>
          bn (ko [4] a0 (m_X4_rangeOf a0 x62)) fun r83 =>
          aI 30 x82 r83 fun x84 =>
          sV 30 x82 r83 (.int (x84 + 1)) <|
          j65 ()
        else
          j65 ()
theorem hm_X4_apply : (yX4_apply.cls ≠ "java/lang/invoke/MethodHandle" ∧ yX4_apply.cls ≠ "java/lang/invoke/VarHandle" ∧ (parseMethodDescriptor yX4_apply.desc).map (fun d => d.parameters.length) = some 1) := by decide +kernel
set_option maxHeartbeats 4000000 in
set_option maxRecDepth 100000 in
theorem L_X4_apply {G : GT} (hG : GOK G) (a0 : Nat) (a1 : Nat) : Cal G yX4_apply (ws_ yX4_apply cX4_apply 3 (Option.none : Option Jvm.ClassFile.FieldType)) 3 82 [.ref a0, .ref a1] rU (m_X4_apply a0 a1) := by
  refine Cal_of hG (by decide +kernel) (Nat.le_of_ble_eq_true rfl) (lv0 := [(0, .ref a0), (1, .ref a1)]) rfl (fun X σ0 => ?_)
  delta m_X4_apply
  refine Ex_aload_n dX4_apply_0 rfl 1 rfl ?_
  refine Ex_gI dX4_apply_1 lk_X4_23 rfl (fun x62 => ?_)
  refine Ex_istore_n (lv' := [(0, .ref a0), (1, .ref a1), (2, .int x62)]) dX4_apply_4 rfl (by decide) [1, 2, 0] rfl ?_
  refine Ex_aload_n dX4_apply_5 rfl 1 rfl ?_
  refine Ex_gI dX4_apply_6 lk_X4_29 rfl (fun x63 => ?_)
  refine Ex_jn (γ := Unit) (pj := 146) (fun v64 => []) (fun v64 => []) (fun v64 => ?_) (fun j65 hj65 => ?_)
  · exact Ex_vreturn dX4_apply_146 rfl
  · refine Ex_lk3 (k0 := 109) (t0 := 108) (k1 := 115) (t1 := 71) (k2 := 119) (t2 := 44) (td := 146) dX4_apply_9 (by decide) (by decide) (by decide) (by decide) (by decide) ?_ ?_ ?_ ?_
    · refine Ex_lv [] (lv' := []) rfl ?_
      exact hj65 ()
    · refine Ex_aload_n dX4_apply_108 rfl 0 rfl ?_
      refine Ex_gR dX4_apply_109 lk_X4_15 rfl (fun x66 => ?_)
      refine Ex_iload_n dX4_apply_112 rfl 2 rfl ?_
      refine Ex_aI_z dX4_apply_113 (fun x67 => ?_)
      refine Ex_if_eq (tgt := 146) dX4_apply_114 (by decide) ?_ ?_
      · refine Ex_lv [] (lv' := []) rfl ?_
        exact hj65 ()
      · refine Ex_aload_n dX4_apply_117 rfl 0 rfl ?_
        refine Ex_gR dX4_apply_118 lk_X4_15 rfl (fun x68 => ?_)
        refine Ex_iload_n dX4_apply_121 rfl 2 rfl ?_
        refine Ex_iconst (v := 0) dX4_apply_122 (by decide) ?_
        refine Ex_zast rfl dX4_apply_123 ?_
        refine Ex_aload_n dX4_apply_124 rfl 0 rfl ?_
        refine Ex_gR dX4_apply_125 lk_X4_19 rfl (fun x69 => ?_)
        refine Ex_aload_n dX4_apply_128 rfl 0 rfl ?_
        refine Ex_iload_n dX4_apply_129 rfl 2 rfl ?_
        refine Ex_bnI (Inv_V (L_X4_rangeOf hG a0 x62) (lw_V q1307 q1308 q1309 q52 q1310) oe_4 ⟨rfl, hm_X4_rangeOf⟩ (by decide) (by decide) dX4_apply_130 rfl (Nat.le_of_ble_eq_true rfl)) (fun r70 => ?_)
        refine Ex_dup2_11 rfl rfl dX4_apply_133 ?_
        refine Ex_aI_i dX4_apply_134 (fun x71 => ?_)
        refine Ex_aload_n dX4_apply_135 rfl 0 rfl ?_
        refine Ex_gR dX4_apply_136 lk_X4_19 rfl (fun x72 => ?_)
        refine Ex_iload_n dX4_apply_139 rfl 2 rfl ?_
        refine Ex_aI_i dX4_apply_140 (fun x73 => ?_)
        refine Ex_iadd dX4_apply_141 ?_
        refine Ex_iast dX4_apply_142 ?_
        refine Ex_goto (tgt := 146) dX4_apply_143 (by decide) ?_
        refine Ex_lv [] (lv' := []) rfl ?_
        exact hj65 ()
    · refine Ex_aload_n dX4_apply_71 rfl 0 rfl ?_
      refine Ex_gR dX4_apply_72 lk_X4_15 rfl (fun x74 => ?_)
      refine Ex_iload_n dX4_apply_75 rfl 2 rfl ?_
      refine Ex_aI_z dX4_apply_76 (fun x75 => ?_)
      refine Ex_if_ne (tgt := 146) dX4_apply_77 (by decide) ?_ ?_
      · refine Ex_lv [] (lv' := []) rfl ?_
        exact hj65 ()
      · refine Ex_aload_n dX4_apply_80 rfl 0 rfl ?_
        refine Ex_gR dX4_apply_81 lk_X4_19 rfl (fun x76 => ?_)
        refine Ex_aload_n dX4_apply_84 rfl 0 rfl ?_
        refine Ex_iload_n dX4_apply_85 rfl 2 rfl ?_
        refine Ex_bnI (Inv_V (L_X4_rangeOf hG a0 x62) (lw_V q1307 q1308 q1309 q52 q1310) oe_4 ⟨rfl, hm_X4_rangeOf⟩ (by decide) (by decide) dX4_apply_86 rfl (Nat.le_of_ble_eq_true rfl)) (fun r77 => ?_)
        refine Ex_iconst (v := 0) dX4_apply_89 (by decide) ?_
        refine Ex_iast dX4_apply_90 ?_
        refine Ex_aload_n dX4_apply_91 rfl 0 rfl ?_
        refine Ex_gR dX4_apply_92 lk_X4_15 rfl (fun x78 => ?_)
        refine Ex_iload_n dX4_apply_95 rfl 2 rfl ?_
        refine Ex_iconst (v := 1) dX4_apply_96 (by decide) ?_
        refine Ex_zast rfl dX4_apply_97 ?_
        refine Ex_aload_n dX4_apply_98 rfl 0 rfl ?_
        refine Ex_gR dX4_apply_99 lk_X4_19 rfl (fun x79 => ?_)
        refine Ex_iload_n dX4_apply_102 rfl 2 rfl ?_
        refine Ex_iconst (v := 0) dX4_apply_103 (by decide) ?_
        refine Ex_iast dX4_apply_104 ?_
        refine Ex_goto (tgt := 146) dX4_apply_105 (by decide) ?_
        refine Ex_lv [] (lv' := []) rfl ?_
        exact hj65 ()
    · refine Ex_aload_n dX4_apply_44 rfl 0 rfl ?_
      refine Ex_gR dX4_apply_45 lk_X4_9 rfl (fun x80 => ?_)
      refine Ex_iload_n dX4_apply_48 rfl 2 rfl ?_
      refine Ex_aload_n dX4_apply_49 rfl 1 rfl ?_
      refine Ex_gI dX4_apply_50 lk_X4_33 rfl (fun x81 => ?_)
      refine Ex_iast dX4_apply_53 ?_
      refine Ex_aload_n dX4_apply_54 rfl 0 rfl ?_
      refine Ex_gR dX4_apply_55 lk_X4_19 rfl (fun x82 => ?_)
      refine Ex_aload_n dX4_apply_58 rfl 0 rfl ?_
      refine Ex_iload_n dX4_apply_59 rfl 2 rfl ?_
      refine Ex_bnI (Inv_V (L_X4_rangeOf hG a0 x62) (lw_V q1307 q1308 q1309 q52 q1310) oe_4 ⟨rfl, hm_X4_rangeOf⟩ (by decide) (by decide) dX4_apply_60 rfl (Nat.le_of_ble_eq_true rfl)) (fun r83 => ?_)
      refine Ex_dup2_11 rfl rfl dX4_apply_63 ?_
      refine Ex_aI_i dX4_apply_64 (fun x84 => ?_)
      refine Ex_iconst (v := 1) dX4_apply_65 (by decide) ?_
      refine Ex_iadd dX4_apply_66 ?_
      refine Ex_iast dX4_apply_67 ?_
      refine Ex_goto (tgt := 146) dX4_apply_68 (by decide) ?_
      refine Ex_lv [] (lv' := []) rfl ?_
      exact hj65 ()
